/-! the linker: which relocation is taken next, both sides -/
set_option maxRecDepth 100000
section jTaken
variable {s t u w r q' : jS} {a b g k m n p v l x y z c j X f i H C P Q P' Q' S : Int} {O : Int → Int → Int → Int → Int} {o : Int → Int → Int → Int} {d e : Int → Int → Int} {E V : Int → Int}
/-- a place is loose; a relocation may be taken; the next one is from a on, of the first m -/
def lsP (o : Int → Int → Int → Int) (a : Int) : Prop := ∃ j, 0 ≤ j ∧ j < o 2 2 0 ∧ o 5 j 2 = 51 ∧ o 5 j 1 = a
def tkP (o : Int → Int → Int → Int) (j : Int) : Prop := o 5 j 0 = 0 ∧ (o 5 j 2 = 43 ∧ 0 < o 5 j 4 ∨ (o 5 j 2 = 19 ∨ o 5 j 2 = 23 ∨ o 5 j 2 = 26) ∧ lsP o (o 5 j 1))
def nxT (o : Int → Int → Int → Int) (a m j : Int) : Prop := (j = -1 ∧ ∀ i, 0 ≤ i → i < m → a ≤ o 5 i 1 → ¬ tkP o i) ∨ ((0 ≤ j ∧ j < m) ∧ tkP o j ∧ a ≤ o 5 j 1 ∧ ∀ i, 0 ≤ i → i < m → a ≤ o 5 i 1 → tkP o i → o 5 j 1 < o 5 i 1 ∨ o 5 i 1 = o 5 j 1 ∧ j ≤ i)
theorem nxT_one (h : nxT o a m j) (h' : nxT o a m k) : j = k := by
  rcases h with ⟨h1, h2⟩ | ⟨⟨h0, h1⟩, h2, h3, h4⟩
  · rcases h' with ⟨k1, -⟩ | ⟨⟨k0, k1⟩, k2, k3, -⟩
    · omega
    · exact absurd k2 (h2 k k0 k1 k3)
  · rcases h' with ⟨k1, k2⟩ | ⟨⟨k0, k1⟩, k2, k3, k4⟩
    · exact absurd h2 (k2 j h0 h1 h3)
    · have a1 := h4 k k0 k1 k3 k2
      have a2 := k4 j h0 h1 h3 h2
      omega
/-- one relocation more -/
theorem nxT_s (h : nxT o a m j) (m0 : 0 ≤ m) : nxT o a (m + 1) j ∧ (o 5 m 1 < a ∨ ¬ tkP o m ∨ ¬ j = -1 ∧ o 5 j 1 ≤ o 5 m 1) ∨ nxT o a (m + 1) m ∧ (a ≤ o 5 m 1 ∧ tkP o m ∧ (j = -1 ∨ o 5 m 1 < o 5 j 1)) := by
  by_cases c : a ≤ o 5 m 1 ∧ tkP o m
  · rcases h with ⟨h1, h2⟩ | ⟨⟨h0, h1⟩, h2, h3, h4⟩
    · exact .inr ⟨.inr ⟨⟨m0, by omega⟩, c.2, c.1, fun i i0 i1 i2 i3 => by
        by_cases ci : i = m
        · rw [ci]; exact .inr ⟨rfl, Int.le_refl _⟩
        · exact absurd i3 (h2 i i0 (by omega) i2)⟩, c.1, c.2, .inl h1⟩
    · by_cases c2 : o 5 m 1 < o 5 j 1
      · exact .inr ⟨.inr ⟨⟨m0, by omega⟩, c.2, c.1, fun i i0 i1 i2 i3 => by
          by_cases ci : i = m
          · rw [ci]; exact .inr ⟨rfl, Int.le_refl _⟩
          · have := h4 i i0 (by omega) i2 i3; omega⟩, c.1, c.2, .inr c2⟩
      · exact .inl ⟨.inr ⟨⟨h0, by omega⟩, h2, h3, fun i i0 i1 i2 i3 => by
          by_cases ci : i = m
          · rw [ci]; omega
          · exact h4 i i0 (by omega) i2 i3⟩, .inr (.inr ⟨by omega, by omega⟩)⟩
  · refine .inl ⟨?_, by
      by_cases c1 : o 5 m 1 < a
      · exact .inl c1
      · exact .inr (.inl fun z => c ⟨by omega, z⟩)⟩
    rcases h with ⟨h1, h2⟩ | ⟨⟨h0, h1⟩, h2, h3, h4⟩
    · exact .inl ⟨h1, fun i i0 i1 i2 i3 => by
        by_cases ci : i = m
        · rw [ci] at i2 i3; exact c ⟨i2, i3⟩
        · exact h2 i i0 (by omega) i2 i3⟩
    · exact .inr ⟨⟨h0, by omega⟩, h2, h3, fun i i0 i1 i2 i3 => by
        by_cases ci : i = m
        · rw [ci] at i2 i3; exact absurd ⟨i2, i3⟩ c
        · exact h4 i i0 (by omega) i2 i3⟩
/-- a relocation of the component -/
def rlA (b j : Int) : Int := (b + 4) + 309 + 1 * j
theorem c_rel (h : cOb s b o) (hT : jTt s 34 b) (v : vOb o) (j0 : 0 ≤ j) (j1 : j < o 2 2 0) : (0 ≤ rlA b j ∧ jK s (rlA b j) = 22) ∧ jf s 1012 (b + 4) j = rlA b j ∧ cRl s (rlA b j) (o 5 j) ∧ (0 ≤ b + 4 ∧ jK s (b + 4) = 1012 ∧ jN s (b + 4) = 300) ∧ (0 ≤ b ∧ jK s b = 18) ∧ jf s 18 b 5 = b + 4 ∧ jf s 18 b 6 = o 2 2 0 := by
  obtain ⟨⟨b0, b1⟩, -, -, -, ⟨f1, f2, f3, f4, f5⟩⟩ := T34 hT
  obtain ⟨-, -, -, -, v5, v6⟩ := v.2.2.1
  obtain ⟨g1, g2⟩ := f5 j j0 (by omega)
  obtain ⟨t1, t2⟩ := T38 g2
  exact ⟨⟨t1, t2⟩, g1, h.2.2.2.2.2.2 j j0 j1, ⟨f2, f3, f4⟩, ⟨b0, b1⟩, f1, h.2.2.2.1.2.2⟩
/-- loose places of the unit at hand, as the component keeps them -/
def rxC (C : Int) (s : jS) (o : Int → Int → Int → Int) : Prop := ∀ a, 0 ≤ a → a ≤ 2048 → (jf s 1002 (C + 4275 + 37) a = 0 ∨ jf s 1002 (C + 4275 + 37) a = 1) ∧ (jf s 1002 (C + 4275 + 37) a = 1 ↔ lsP o a)
theorem rel_lo (v : vOb o) (g : gOb o) (j0 : 0 ≤ j) (j1 : j < o 2 2 0) : (0 ≤ o 5 j 0 ∧ o 5 j 0 ≤ 2) ∧ 0 ≤ o 5 j 1 ∧ o 5 j 1 + kW (o 5 j 2) (o 5 j 4) ≤ 2048 ∧ 0 ≤ kW (o 5 j 2) (o 5 j 4) ∧ o 5 j 1 + kW (o 5 j 2) (o 5 j 4) ≤ o 1 (o 5 j 0) 0 := by
  obtain ⟨w0, w1, w2, w3, w4, w5, w6, w7, w8⟩ := v.2.2.2.2.2 j j0 j1
  obtain ⟨-, -, -, g5⟩ := g.2.2 j j0 j1
  have hs := (v.1 (o 5 j 0) w0 (by omega)).2.1
  rw [if_neg (by omega)] at hs
  have hk : 0 ≤ kW (o 5 j 2) (o 5 j 4) := by
    unfold kW
    by_cases c : o 5 j 2 = 43
    · rw [if_pos c]; exact (w8 c).1
    · rw [if_neg c]; split
      · decide
      split
      · decide
      split
      · decide
      split <;> decide
  exact ⟨⟨w0, w1⟩, w2, by omega, hk, g5⟩
theorem c_relax (h : cOb s b o) (hT : jTt s 34 b) (v : vOb o) (g : gOb o) (hb : b + 613 ≤ C + 15464 ∧ C + 4316 ≤ b) : ∃ u, m_X35_relax s (C + 4275) b = some (u, 0) ∧ jSm s u ∧ (∀ c a k, ¬ (c = 1002 ∧ a = C + 4275 + 37) → jf u c a k = jf s c a k) ∧ rxC C u o := by
  obtain ⟨-, -, -, -, v5, v6⟩ := id v.2.2.1
  rw [em_X35_relax]; unfold dm_X35_relax
  rw [eu_X35_relax_2]; unfold du_X35_relax_2
  obtain ⟨w0, e0, ⟨m0, f0⟩, z0⟩ := loopTo (C := jc3 b_X35_relax_2) (fun p w => (jSm s w ∧ ∀ c a k, ¬ (c = 1002 ∧ a = C + 4275 + 37) → jf w c a k = jf s c a k) ∧ ∀ a, 0 ≤ a → a < p → jf w 1002 (C + 4275 + 37) a = 0) (fun p => [C + 4275, b, p]) 0 2049 (by decide) (s := s) (F := fun w => u_X35_relax_22 w (C + 4275) b) ⟨⟨jSm.rfl, fun _ _ _ _ => rfl⟩, fun a a0 a1 => by omega⟩ (fun p w p0 p1 ⟨⟨e1, e2⟩, e3⟩ => by
    show ∃ w', b_X35_relax_2 w (C + 4275) b p = some (.inl (w', [C + 4275, b, p + 1])) ∧ _
    unfold b_X35_relax_2
    rw [if_neg (by omega), jst_in p0 p1, Option.bind_some, Wz_0, W32_in (by omega) (by omega)]
    refine ⟨_, rfl, ⟨e1.jp, fun c a k q => by rw [jf_neg (by omega)]; exact e2 c a k q⟩, fun a a0 a1 => ?_⟩
    by_cases c : a = p
    · rw [c]; exact jf_pos ⟨rfl, rfl, rfl⟩
    · rw [jf_neg (by omega)]; exact e3 a a0 (by omega)) (fun w _ => by
    show b_X35_relax_2 w (C + 4275) b 2049 = _
    unfold b_X35_relax_2
    rw [if_pos (by decide)])
  rw [e0, eu_X35_relax_22]; unfold du_X35_relax_22
  rw [eu_X35_relax_24]; unfold du_X35_relax_24
  obtain ⟨w1, e1, ⟨m1, f1⟩, z1⟩ := loopTo (C := jc3 b_X35_relax_24) (fun p w => (jSm s w ∧ ∀ c a k, ¬ (c = 1002 ∧ a = C + 4275 + 37) → jf w c a k = jf s c a k) ∧ ∀ a, 0 ≤ a → a ≤ 2048 → (jf w 1002 (C + 4275 + 37) a = 0 ∨ jf w 1002 (C + 4275 + 37) a = 1) ∧ (jf w 1002 (C + 4275 + 37) a = 1 ↔ ∃ j, 0 ≤ j ∧ j < p ∧ o 5 j 2 = 51 ∧ o 5 j 1 = a)) (fun p => [C + 4275, b, p]) 0 (o 2 2 0) v5 (s := w0) (F := fun w => some (w, 0)) ⟨⟨m0, f0⟩, fun a a0 a1 => by
      have := z0 a a0 (by omega)
      exact ⟨.inl this, fun z => by omega, fun ⟨j, j0, j1, _⟩ => by omega⟩⟩ (fun p w p0 p1 ⟨⟨e1, e2⟩, e3⟩ => by
    have hw : cOb w b o := h.keep (fun a _ _ => by rw [e1.2.1]) (fun c a k a0 a1 => e2 c a k (by omega)) v.2.2.1
    have hTw : jTt w 34 b := Lo_34 s w b hT (by rw [e1.2.2.1]; exact Int.le_refl _) fun a a0 a1 => ⟨by rw [e1.1], by rw [e1.2.1], fun k => by show jf w (jK w a) a k = jf s (jK s a) a k; rw [e1.1]; exact e2 _ _ _ (by omega)⟩
    obtain ⟨⟨r0, rk⟩, r1, ⟨c0, c1, c2, c3, c4⟩, ⟨q0, qk, qn⟩, ⟨b0, bk⟩, b5, b6⟩ := c_rel hw hTw v p0 p1
    obtain ⟨-, l1, l2, l3, -⟩ := rel_lo v g p0 p1
    have jl : jld w 1012 (b + 4) p = some (rlA b p) := by unfold jld; rw [if_pos ⟨q0, qk, p0, by rw [qn]; omega⟩, r1]
    show ∃ w', b_X35_relax_24 w (C + 4275) b p = some (.inl (w', [C + 4275, b, p + 1])) ∧ _
    unfold b_X35_relax_24
    rw [jrd_in b0 bk, Option.bind_some, b6, if_pos p1, jrd_in b0 bk, Option.bind_some, b5, jl, Option.bind_some, jrd_in r0 rk, Option.bind_some, c2, Option.bind_some, jl, Option.bind_some, jrd_in r0 rk, Option.bind_some, c1, eu_X35_relax_61]; unfold du_X35_relax_61
    rw [W32_in (z := p + 1) (by omega) (by omega)]
    by_cases c51 : o 5 p 2 = 51
    · rw [if_pos c51, jst_in l1 (by omega), Option.bind_some, Wz_1]
      refine ⟨_, rfl, ⟨e1.jp, fun c a k q => by rw [jf_neg (by omega)]; exact e2 c a k q⟩, fun a a0 a1 => ?_⟩
      by_cases c : a = o 5 p 1
      · rw [c, jf_pos ⟨rfl, rfl, rfl⟩]
        exact ⟨.inr rfl, fun _ => ⟨p, p0, by omega, c51, rfl⟩, fun _ => rfl⟩
      · rw [jf_neg (by omega)]
        obtain ⟨y1, y2⟩ := e3 a a0 a1
        refine ⟨y1, y2.trans ⟨fun ⟨j, j0, j1, j2, j3⟩ => ⟨j, j0, by omega, j2, j3⟩, fun ⟨j, j0, j1, j2, j3⟩ => ⟨j, j0, ?_, j2, j3⟩⟩⟩
        by_cases cj : j = p
        · rw [cj] at j3; exact absurd j3.symm c
        · omega
    · rw [if_neg c51]
      refine ⟨w, rfl, ⟨e1, e2⟩, fun a a0 a1 => ?_⟩
      obtain ⟨y1, y2⟩ := e3 a a0 a1
      refine ⟨y1, y2.trans ⟨fun ⟨j, j0, j1, j2, j3⟩ => ⟨j, j0, by omega, j2, j3⟩, fun ⟨j, j0, j1, j2, j3⟩ => ⟨j, j0, ?_, j2, j3⟩⟩⟩
      by_cases cj : j = p
      · rw [cj] at j2; exact absurd j2 c51
      · omega) (fun w ⟨⟨e1, e2⟩, _⟩ => by
    have hw : cOb w b o := h.keep (fun a _ _ => by rw [e1.2.1]) (fun c a k a0 a1 => e2 c a k (by omega)) v.2.2.1
    obtain ⟨⟨b0, bk⟩, -⟩ := T34 hT
    show b_X35_relax_24 w (C + 4275) b (o 2 2 0) = _
    unfold b_X35_relax_24
    rw [jrd_in b0 (by rw [e1.1]; exact bk), Option.bind_some, hw.2.2.2.1.2.2, if_neg (Int.lt_irrefl _)])
  exact ⟨w1, e1, m1, f1, z1⟩
theorem c_mayMove (h : cOb s b o) (hT : jTt s 34 b) (v : vOb o) (g : gOb o) (hx : rxC C s o) (j0 : 0 ≤ j) (j1 : j < o 2 2 0) : ∃ r, m_X35_mayMove s (C + 4275) (rlA b j) = some r ∧ (r = 0 ∨ r = 1) ∧ (r = 1 ↔ tkP o j) := by
  obtain ⟨⟨r0, rk⟩, r1, ⟨c0, c1, c2, c3, c4⟩, -⟩ := c_rel h hT v j0 j1
  obtain ⟨-, l1, l2, l3, -⟩ := rel_lo v g j0 j1
  have rd : ∀ k, jrd s 22 (rlA b j) k = some (jf s 22 (rlA b j) k) := fun k => jrd_in r0 rk
  rw [em_X35_mayMove]; unfold dm_X35_mayMove
  rw [rd, Option.bind_some, c0, rd, Option.bind_some, c2, rd, Option.bind_some, c4, Option.bind_some, Option.bind_some, Option.bind_some, eu_X35_mayMove_60, Wz_0, Wz_1]; unfold du_X35_mayMove_60
  obtain ⟨x1, x2⟩ := hx (o 5 j 1) l1 (by omega)
  rw [rd, Option.bind_some, c1, jlt_in l1 (by omega), Option.bind_some, Wz_0, Wz_1]
  unfold tkP
  have k60 : ∃ r : Int, (if jf s 1002 (C + 4275 + 37) (o 5 j 1) = 0 then some 0 else some 1) = some r ∧ (r = 0 ∨ r = 1) ∧ (r = 1 ↔ lsP o (o 5 j 1)) := by
    rcases x1 with z | z
    · rw [if_pos z]; exact ⟨0, rfl, .inl rfl, fun q => absurd q (by decide), fun q => by have := x2.mpr q; omega⟩
    · rw [if_neg (by omega)]; exact ⟨1, rfl, .inr rfl, fun _ => x2.mp z, fun _ => rfl⟩
  by_cases d0 : o 5 j 0 = 0
  rotate_left
  · rw [if_neg d0]; exact ⟨0, rfl, .inl rfl, fun q => absurd q (by decide), fun q => absurd q.1 d0⟩
  rw [if_pos d0]
  by_cases d1 : o 5 j 2 = 43
  · rw [if_pos d1]
    by_cases d2 : 0 < o 5 j 4
    · rw [if_pos d2]; exact ⟨1, rfl, .inr rfl, fun _ => ⟨d0, .inl ⟨d1, d2⟩⟩, fun _ => rfl⟩
    · rw [if_neg d2]; exact ⟨0, rfl, .inl rfl, fun q => absurd q (by decide), fun q => by rcases q.2 with z | z <;> omega⟩
  rw [if_neg d1]
  obtain ⟨r, er, e1, e2⟩ := k60
  have yes : (o 5 j 2 = 19 ∨ o 5 j 2 = 23 ∨ o 5 j 2 = 26) → ∃ r : Int, (if jf s 1002 (C + 4275 + 37) (o 5 j 1) = 0 then some 0 else some 1) = some r ∧ (r = 0 ∨ r = 1) ∧ (r = 1 ↔ o 5 j 0 = 0 ∧ (o 5 j 2 = 43 ∧ 0 < o 5 j 4 ∨ (o 5 j 2 = 19 ∨ o 5 j 2 = 23 ∨ o 5 j 2 = 26) ∧ lsP o (o 5 j 1))) := fun hk => ⟨r, er, e1, e2.trans ⟨fun z => ⟨d0, .inr ⟨hk, z⟩⟩, fun z => by
    rcases z.2 with y | y
    · exact absurd y.1 d1
    · exact y.2⟩⟩
  by_cases d3 : o 5 j 2 = 19
  · rw [if_pos d3]; exact yes (.inl d3)
  rw [if_neg d3]
  by_cases d4 : o 5 j 2 = 23
  · rw [if_pos d4]; exact yes (.inr (.inl d4))
  rw [if_neg d4]
  by_cases d5 : o 5 j 2 = 26
  · rw [if_pos d5]; exact yes (.inr (.inr d5))
  rw [if_neg d5]
  exact ⟨0, rfl, .inl rfl, fun q => absurd q (by decide), fun q => by rcases q.2 with z | z <;> omega⟩
theorem c_nextMove (h : cOb s b o) (hT : jTt s 34 b) (v : vOb o) (g : gOb o) (hx : rxC C s o) : ∃ j, m_X35_nextMove s (C + 4275) b a = some j ∧ nxT o a (o 2 2 0) j := by
  obtain ⟨-, -, -, -, v5, v6⟩ := id v.2.2.1
  rw [em_X35_nextMove]; unfold dm_X35_nextMove
  rw [eu_X35_nextMove_5]; unfold du_X35_nextMove_5
  have key : jE (jlpR (jc5 b_X35_nextMove_5) [C + 4275, b, a, -1, 0] s) fun r => nxT o a (o 2 2 0) r := by
    refine jS_forR (C := jc5 b_X35_nextMove_5) (fun m z => nxT o a m z) (fun m z => [C + 4275, b, a, z, m]) 0 (o 2 2 0) v5 (.inl ⟨rfl, fun i i0 i1 => by omega⟩) (fun m z m0 m1 hz => ?_) (fun z hz => ?_)
    · obtain ⟨⟨r0, rk⟩, r1, ⟨c0, c1, c2, c3, c4⟩, ⟨q0, qk, qn⟩, ⟨b0, bk⟩, b5, b6⟩ := c_rel h hT v m0 m1
      have jl : ∀ m, 0 ≤ m → m < o 2 2 0 → jld s 1012 (b + 4) m = some (rlA b m) := fun m m0 m1 => by
        unfold jld; rw [if_pos ⟨q0, qk, m0, by rw [qn]; omega⟩, (c_rel h hT v m0 m1).2.1]
      have rd : ∀ k, jrd s 22 (rlA b m) k = some (jf s 22 (rlA b m) k) := fun k => jrd_in r0 rk
      show jE (b_X35_nextMove_5 s (C + 4275) b a z m) _
      unfold b_X35_nextMove_5
      obtain ⟨mm, em, em1, em2⟩ := c_mayMove h hT v g hx m0 m1
      rw [jrd_in b0 bk, Option.bind_some, b6, if_pos m1, jrd_in b0 bk, Option.bind_some, b5, jl m m0 m1, Option.bind_some, rd, Option.bind_some, c1, eu_X35_nextMove_66, eu_X35_nextMove_54]; unfold du_X35_nextMove_66 du_X35_nextMove_54
      rw [em, eu_X35_nextMove_66]; unfold du_X35_nextMove_66
      rw [W32_in (z := m + 1) (by omega) (by omega)]
      have hs := nxT_s hz m0
      have mt : tkP o m → ¬ mm = 0 := fun z => by have := em2.mpr z; omega
      have mf : ¬ tkP o m → mm = 0 := fun z => by
        rcases em1 with y | y
        · exact y
        · exact absurd (em2.mp y) z
      by_cases k1 : o 5 m 1 < a
      · rw [if_pos k1]
        rcases hs with ⟨h1, -⟩ | ⟨-, h2, -⟩
        · exact jS_end ⟨z, rfl, h1⟩
        · omega
      rw [if_neg k1]
      by_cases k2 : z = -1
      · rw [if_pos k2, Option.bind_some]
        rcases hs with ⟨h1, h2⟩ | ⟨h1, -, h2, -⟩
        · have : ¬ tkP o m := by rcases h2 with q | q | q; omega; exact q; omega
          rw [if_pos (mf this)]; exact jS_end ⟨z, rfl, h1⟩
        · rw [if_neg (mt h2)]; exact jS_end ⟨m, rfl, h1⟩
      obtain ⟨z0, z1⟩ : 0 ≤ z ∧ z < o 2 2 0 := by rcases hz with q | q <;> omega
      obtain ⟨⟨rz0, rzk⟩, -, ⟨-, zc1, -⟩, -⟩ := c_rel h hT v z0 z1
      rw [if_neg k2, Option.bind_some, Option.bind_some, jl z z0 z1, Option.bind_some, jrd_in rz0 rzk, Option.bind_some, zc1]
      by_cases k3 : o 5 m 1 < o 5 z 1
      · rw [if_pos k3, Option.bind_some]
        rcases hs with ⟨h1, h2⟩ | ⟨h1, -, h2, -⟩
        · have : ¬ tkP o m := by rcases h2 with q | q | q; omega; exact q; omega
          rw [if_pos (mf this)]; exact jS_end ⟨z, rfl, h1⟩
        · rw [if_neg (mt h2)]; exact jS_end ⟨m, rfl, h1⟩
      · rw [if_neg k3]
        rcases hs with ⟨h1, -⟩ | ⟨-, -, -, h2⟩
        · exact jS_end ⟨z, rfl, h1⟩
        · omega
    · obtain ⟨⟨b0, bk⟩, -⟩ := T34 hT
      show jE (b_X35_nextMove_5 s (C + 4275) b a z (o 2 2 0)) _
      unfold b_X35_nextMove_5
      rw [jrd_in b0 bk, Option.bind_some, h.2.2.2.1.2.2, if_neg (Int.lt_irrefl _)]
      exact jS_inr (jS_end hz)
  obtain ⟨j, ej, hj⟩ := key
  exact ⟨j, ej, hj⟩
/-- the twin's side -/
theorem t_hasLoose (h : tUn t H x o) (v : vOb o) (g : gOb o) (x0 : 0 ≤ x) (x1 : x < 6) : ∃ r, m_X37_hasLoose t H x a = some r ∧ (r = 0 ∨ r = 1) ∧ (r = 1 ↔ lsP o a) := by
  obtain ⟨-, -, -, -, v5, v6⟩ := id v.2.2.1
  obtain ⟨n1, n2⟩ := h.2.2.2.2
  rw [em_X37_hasLoose]; unfold dm_X37_hasLoose
  rw [eu_X37_hasLoose_2]; unfold du_X37_hasLoose_2
  have st : ∀ j, 0 ≤ j → j < o 2 2 0 → (¬ (o 5 j 2 = 51 ∧ o 5 j 1 = a) → b_X37_hasLoose_2 t H x a j = some (.inl [H, x, a, j + 1])) ∧ ((o 5 j 2 = 51 ∧ o 5 j 1 = a) → b_X37_hasLoose_2 t H x a j = jinr (some 1)) := fun j j0 j1 => by
    obtain ⟨c0, c1, c2, c3, c4⟩ := n2 j j0 j1
    have gs := (g.2.2 j j0 j1).1
    unfold b_X37_hasLoose_2
    rw [jlt_in x0 x1, Option.bind_some, n1, if_pos j1, jlet_e, W32_in (z := 300 * x) (by omega) (by omega), W32_in (z := 300 * x + j) (by omega) (by omega), jlt_in (by omega) (by omega), Option.bind_some, c2, eu_X37_hasLoose_56, Wz_1]; unfold du_X37_hasLoose_56
    rw [W32_in (z := j + 1) (by omega) (by omega)]
    by_cases c51 : o 5 j 2 = 51
    · rw [if_pos c51, jlt_in (by omega) (by omega), Option.bind_some, c0, if_pos (by omega), jlt_in (by omega) (by omega), Option.bind_some, c1]
      by_cases ca : o 5 j 1 = a
      · rw [if_pos ca]; exact ⟨fun q => absurd ⟨c51, ca⟩ q, fun _ => rfl⟩
      · rw [if_neg ca]; exact ⟨fun _ => rfl, fun q => absurd q.2 ca⟩
    · rw [if_neg c51]; exact ⟨fun _ => rfl, fun q => absurd q.1 c51⟩
  rcases jseekR (C := jc4 b_X37_hasLoose_2) (s := t) (fun j => [H, x, a, j]) (fun j => o 5 j 2 = 51 ∧ o 5 j 1 = a) (fun _ => some 1) (some 0) 0 (o 2 2 0) v5 (fun j j0 j1 hj => (st j j0 j1).1 hj) (fun j j0 j1 hj => (st j j0 j1).2 hj) (by
      show b_X37_hasLoose_2 t H x a (o 2 2 0) = _
      unfold b_X37_hasLoose_2
      rw [jlt_in x0 x1, Option.bind_some, n1, if_neg (Int.lt_irrefl _), Wz_0]) with ⟨k, k0, k1, k2, -, e⟩ | ⟨k2, e⟩
  · exact ⟨1, e, .inr rfl, fun _ => ⟨k, k0, k1, k2⟩, fun _ => rfl⟩
  · exact ⟨0, e, .inl rfl, fun q => absurd q (by decide), fun ⟨j, j0, j1, j2⟩ => absurd j2 (k2 j j0 j1)⟩
theorem t_isTakable (h : tUn t H x o) (v : vOb o) (g : gOb o) (x0 : 0 ≤ x) (x1 : x < 6) (j0 : 0 ≤ j) (j1 : j < o 2 2 0) : ∃ r, m_X37_isTakable t H x (300 * x + j) = some r ∧ (r = 0 ∨ r = 1) ∧ (r = 1 ↔ tkP o j) := by
  obtain ⟨-, -, -, -, v5, v6⟩ := id v.2.2.1
  obtain ⟨n1, n2⟩ := h.2.2.2.2
  obtain ⟨c0, c1, c2, c3, c4⟩ := n2 j j0 j1
  have rd : ∀ a, jlt t 1000 a 1800 (300 * x + j) = some (jf t 1000 a (300 * x + j)) := fun a => jlt_in (by omega) (by omega)
  obtain ⟨r, er, e1, e2⟩ := t_hasLoose (a := o 5 j 1) h v g x0 x1
  rw [em_X37_isTakable]; unfold dm_X37_isTakable
  rw [rd, Option.bind_some, c0, rd, Option.bind_some, c2, rd, Option.bind_some, c4, Option.bind_some, Option.bind_some, Option.bind_some, eu_X37_isTakable_70, Wz_0, Wz_1]; unfold du_X37_isTakable_70
  rw [rd, Option.bind_some, c1, er, Option.bind_some, Wz_0, Wz_1]
  unfold tkP
  have k70 : ∃ r' : Int, (if r = 0 then some 0 else some 1) = some r' ∧ (r' = 0 ∨ r' = 1) ∧ (r' = 1 ↔ lsP o (o 5 j 1)) := by
    rcases e1 with z | z
    · rw [if_pos z]; exact ⟨0, rfl, .inl rfl, fun q => absurd q (by decide), fun q => by have := e2.mpr q; omega⟩
    · rw [if_neg (by omega)]; exact ⟨1, rfl, .inr rfl, fun _ => e2.mp z, fun _ => rfl⟩
  by_cases d0 : o 5 j 0 = 0
  rotate_left
  · rw [if_neg d0]; exact ⟨0, rfl, .inl rfl, fun q => absurd q (by decide), fun q => absurd q.1 d0⟩
  rw [if_pos d0]
  by_cases d1 : o 5 j 2 = 43
  · rw [if_pos d1]
    by_cases d2 : 0 < o 5 j 4
    · rw [if_pos d2]; exact ⟨1, rfl, .inr rfl, fun _ => ⟨d0, .inl ⟨d1, d2⟩⟩, fun _ => rfl⟩
    · rw [if_neg d2]; exact ⟨0, rfl, .inl rfl, fun q => absurd q (by decide), fun q => by rcases q.2 with z | z <;> omega⟩
  rw [if_neg d1]
  obtain ⟨r', er', e1', e2'⟩ := k70
  have yes : (o 5 j 2 = 19 ∨ o 5 j 2 = 23 ∨ o 5 j 2 = 26) → ∃ r' : Int, (if r = 0 then some 0 else some 1) = some r' ∧ (r' = 0 ∨ r' = 1) ∧ (r' = 1 ↔ o 5 j 0 = 0 ∧ (o 5 j 2 = 43 ∧ 0 < o 5 j 4 ∨ (o 5 j 2 = 19 ∨ o 5 j 2 = 23 ∨ o 5 j 2 = 26) ∧ lsP o (o 5 j 1))) := fun hk => ⟨r', er', e1', e2'.trans ⟨fun z => ⟨d0, .inr ⟨hk, z⟩⟩, fun z => by
    rcases z.2 with y | y
    · exact absurd y.1 d1
    · exact y.2⟩⟩
  by_cases d3 : o 5 j 2 = 19
  · rw [if_pos d3]; exact yes (.inl d3)
  rw [if_neg d3]
  by_cases d4 : o 5 j 2 = 23
  · rw [if_pos d4]; exact yes (.inr (.inl d4))
  rw [if_neg d4]
  by_cases d5 : o 5 j 2 = 26
  · rw [if_pos d5]; exact yes (.inr (.inr d5))
  rw [if_neg d5]
  exact ⟨0, rfl, .inl rfl, fun q => absurd q (by decide), fun q => by rcases q.2 with z | z <;> omega⟩
/-- the twin's number of a unit's relocation -/
def rNo (x j : Int) : Int := if j = -1 then -1 else 300 * x + j
theorem t_nextTaken (h : tUn t H x o) (v : vOb o) (g : gOb o) (x0 : 0 ≤ x) (x1 : x < 6) : ∃ j, m_X37_nextTaken t H x a = some (rNo x j) ∧ nxT o a (o 2 2 0) j := by
  obtain ⟨-, -, -, -, v5, v6⟩ := id v.2.2.1
  obtain ⟨n1, n2⟩ := h.2.2.2.2
  rw [em_X37_nextTaken]; unfold dm_X37_nextTaken
  rw [eu_X37_nextTaken_5]; unfold du_X37_nextTaken_5
  have key : jE (jlpR (jc5 b_X37_nextTaken_5) [H, x, a, -1, 0] t) fun r => ∃ j, r = rNo x j ∧ nxT o a (o 2 2 0) j := by
    refine jS_forR (C := jc5 b_X37_nextTaken_5) (fun m z => ∃ j, z = rNo x j ∧ nxT o a m j) (fun m z => [H, x, a, z, m]) 0 (o 2 2 0) v5 ⟨-1, rfl, .inl ⟨rfl, fun i i0 i1 => by omega⟩⟩ (fun m z m0 m1 hz => ?_) (fun z hz => ?_)
    · obtain ⟨j, rfl, hz⟩ := hz
      obtain ⟨c0, c1, c2, c3, c4⟩ := n2 m m0 m1
      obtain ⟨mm, em, em1, em2⟩ := t_isTakable h v g x0 x1 m0 m1
      show jE (b_X37_nextTaken_5 t H x a (rNo x j) m) _
      unfold b_X37_nextTaken_5
      rw [jlt_in x0 x1, Option.bind_some, n1, if_pos m1, jlet_e, W32_in (z := 300 * x) (by omega) (by omega), W32_in (z := 300 * x + m) (by omega) (by omega), jlt_in (by omega) (by omega), Option.bind_some, c1, em, Option.bind_some, Option.bind_some, eu_X37_nextTaken_68, eu_X37_nextTaken_71]; unfold du_X37_nextTaken_68 du_X37_nextTaken_71
      rw [eu_X37_nextTaken_71]; unfold du_X37_nextTaken_71
      rw [W32_in (z := m + 1) (by omega) (by omega)]
      have rm : rNo x m = 300 * x + m := by unfold rNo; rw [if_neg (by omega)]
      have hs := nxT_s hz m0
      have mt : tkP o m → ¬ mm = 0 := fun z => by have := em2.mpr z; omega
      have mf : ¬ tkP o m → mm = 0 := fun z => by
        rcases em1 with y | y
        · exact y
        · exact absurd (em2.mp y) z
      by_cases k1 : o 5 m 1 < a
      · rw [if_pos k1]
        rcases hs with ⟨h1, -⟩ | ⟨-, h2, -⟩
        · exact jS_end ⟨_, rfl, j, rfl, h1⟩
        · omega
      rw [if_neg k1]
      by_cases kt : tkP o m
      rotate_left
      · rw [if_pos (mf kt)]
        rcases hs with ⟨h1, -⟩ | ⟨-, -, h2, -⟩
        · exact jS_end ⟨_, rfl, j, rfl, h1⟩
        · exact absurd h2 kt
      rw [if_neg (mt kt)]
      by_cases k2 : j = -1
      · rw [if_pos (by unfold rNo; rw [if_pos k2])]
        rcases hs with ⟨h1, h2⟩ | ⟨h1, -, h2, -⟩
        · rcases h2 with q | q | q
          · omega
          · exact absurd kt q
          · omega
        · exact jS_end ⟨_, rfl, m, rm.symm, h1⟩
      obtain ⟨z0, z1⟩ : 0 ≤ j ∧ j < o 2 2 0 := by rcases hz with q | q <;> omega
      obtain ⟨-, zc1, -⟩ := n2 j z0 z1
      have rj : rNo x j = 300 * x + j := by unfold rNo; rw [if_neg k2]
      rw [if_neg (by rw [rj]; omega), rj, jlt_in (by omega) (by omega), Option.bind_some, zc1]
      by_cases k3 : o 5 m 1 < o 5 j 1
      · rw [if_pos k3]
        rcases hs with ⟨h1, h2⟩ | ⟨h1, -, h2, -⟩
        · rcases h2 with q | q | q
          · omega
          · exact absurd kt q
          · omega
        · exact jS_end ⟨_, rfl, m, rm.symm, h1⟩
      · rw [if_neg k3]
        rcases hs with ⟨h1, -⟩ | ⟨-, -, -, h2⟩
        · exact jS_end ⟨_, rfl, j, rj.symm, h1⟩
        · omega
    · obtain ⟨j, rfl, hz⟩ := hz
      show jE (b_X37_nextTaken_5 t H x a (rNo x j) (o 2 2 0)) _
      unfold b_X37_nextTaken_5
      rw [jlt_in x0 x1, Option.bind_some, n1, if_neg (Int.lt_irrefl _)]
      exact jS_inr (jS_end ⟨j, rfl, hz⟩)
  obtain ⟨r, er, j, hr, hj⟩ := key
  exact ⟨j, by rw [← hr]; exact er, hj⟩
end jTaken
