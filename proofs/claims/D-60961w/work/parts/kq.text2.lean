/-! the linker: the pieces of a text, both sides *-/
set_option maxRecDepth 100000
section jTxl
variable {s t u w s' t' q' : jS} {a b g k m n p v l x y0 c j X f i H C P Q P' Q' S Si w0 l0 c0 z0 N M rr : Int} {O : Int → Int → Int → Int → Int} {o : Int → Int → Int → Int} {d d' d2 e z z' z2 y y' : Int → Int → Int}
/-- a new piece -/
def pcN (O : Int → Int → Int → Int → Int) (Si m a n rr x : Int) : Prop := (0 ≤ a ∧ 0 ≤ n ∧ a + n ≤ 4096) ∧ ((rr = -1 ∧ Si = 0 ∧ m = n) ∨ ((0 ≤ x ∧ x < 6) ∧ ∃ i, (0 ≤ i ∧ i < 300 ∧ i < O x 2 2 0) ∧ rr = 300 * x + i ∧ tkP (O x) i ∧ a = O x 5 i 1 ∧ n = kW (O x 5 i 2) (O x 5 i 4) ∧ Si = srT (O x 5 i 2) ∧ (O x 5 i 2 = 43 → m = O x 5 i 4)))
theorem pcN.pc (h : pcN O Si m a n rr x) (e01 : d' 0 1 = d 0 1) : pcI O (dPc d' Si m w0 l0 c0 z0) (zP z (d 0 1) a n rr x) (d 0 1) := by
  obtain ⟨z1, z2, z3, z4⟩ := zP_at (z := z) (p := d 0 1) (a := a) (n := n) (rr := rr) (x := x)
  obtain ⟨h5, h6, -⟩ := dPc_at (d := d') (S := Si) (n := m) (w := w0) (l := l0) (c := c0) (z := z0)
  rw [e01] at h5 h6
  unfold pcI
  rw [z1, z2, z3, z4, h5, h6]
  exact h
/-- between the pieces of a text -/
def txI (C H S : Int) (O : Int → Int → Int → Int → Int) (s t : jS) (e d z y : Int → Int → Int) (x a : Int) : Prop := LBR C H s t d z ∧ LBL C H S O s t e d y ∧ LB0 C H S O s t e ∧ rxC C s (O x) ∧ (∀ k, 0 ≤ k → k < d 0 1 → pcI O d z k ∧ (z 2 k = -1 ∨ z 3 k < x ∨ z 3 k = x ∧ z 0 k < a) ∧ z 3 k ≤ x) ∧ pCi d z (d 0 0 - 1) a ∧ pcYs S O e d y z ∧ (d 1 (d 0 0 - 1) = 0 ∧ d 0 0 - 1 = 4 * nIn S x.toNat ∧ sIn S x)
theorem pcs_add (h : ∀ k, 0 ≤ k → k < d 0 1 → pcI O d z k ∧ (z 2 k = -1 ∨ z 3 k < x ∨ z 3 k = x ∧ z 0 k < a) ∧ z 3 k ≤ x) (hd : dOnly d d') (n0 : 0 < n ∨ rr = -1) (hp : pcN O Si m a n rr x) (hn : 0 ≤ n) : ∀ k, 0 ≤ k → k < d 0 1 + 1 → pcI O (dPc d' Si m w0 l0 c0 z0) (zP z (d 0 1) a n rr x) k ∧ (zP z (d 0 1) a n rr x 2 k = -1 ∨ zP z (d 0 1) a n rr x 3 k < x ∨ zP z (d 0 1) a n rr x 3 k = x ∧ zP z (d 0 1) a n rr x 0 k < a + n) ∧ zP z (d 0 1) a n rr x 3 k ≤ x := fun k k0 k1 => by
  have e01 : d' 0 1 = d 0 1 := hd.1 _ _ (by omega) (by omega) (by omega)
  obtain ⟨z1, z2, z3, z4⟩ := zP_at (z := z) (p := d 0 1) (a := a) (n := n) (rr := rr) (x := x)
  by_cases c : k = d 0 1
  · rw [c, z1, z3, z4]
    refine ⟨hp.pc e01, ?_, Int.le_refl _⟩
    rcases n0 with q | q
    · exact .inr (.inr ⟨rfl, by omega⟩)
    · exact .inl q
  · have zo : ∀ f, zP z (d 0 1) a n rr x f k = z f k := fun f => zP_no (by omega)
    obtain ⟨h1, h2, h3⟩ := h k k0 (by omega)
    rw [zo, zo, zo]
    refine ⟨h1.eq (fun f _ _ => zo f) ?_ ?_, ?_, h3⟩
    · rw [dPc_no (by omega) (by omega) (by omega)]; exact hd.1 _ _ (by omega) (by omega) (by omega)
    · rw [dPc_no (by omega) (by omega) (by omega)]; exact hd.1 _ _ (by omega) (by omega) (by omega)
    · rcases h2 with q | q | q
      · exact .inl q
      · exact .inr (.inl q)
      · exact .inr (.inr ⟨q.1, by omega⟩)
theorem txI.add (h : txI C H S O s t e d z y x a) (h0 : 0 < d 0 0) (hd : dOnly d d') (hB' : LBR C H u w (dPc d' Si m w0 l0 c0 z0) (zP z (d 0 1) a n rr x)) (hL' : LBL C H S O u w e (dPc d' Si m w0 l0 c0 z0) y') (g : cBW C s u P Q) (g' : tBW H t w) (gr : jRb C H s t u w) (n0 : 0 < n) (hp : pcN O Si m a n rr x) (hyk : yKp d d' y y') (hpy : pcY S O e (dPc d' Si m w0 l0 c0 z0) y' (zP z (d 0 1) a n rr x) (d 0 1)) : txI C H S O u w e (dPc d' Si m w0 l0 c0 z0) (zP z (d 0 1) a n rr x) y' x (a + n) := by
  obtain ⟨h1, h2, h3, h4, h5, h6, h7, h8⟩ := h
  have e00 : d' 0 0 = d 0 0 := hd.1 _ _ (by omega) (by omega) (by omega)
  have e01 : d' 0 1 = d 0 1 := hd.1 _ _ (by omega) (by omega) (by omega)
  have D0 : dPc d' Si m w0 l0 c0 z0 0 0 = d 0 0 := by rw [dPc_no (by omega) (by omega) (by omega)]; exact e00
  refine ⟨hB', hL', h3.bw g g', fun k k0 k1 => by rw [gr.1.2]; exact h4 k k0 k1, fun k k0 k1 => ?_, ?_, h7.add h1.1 hd hyk hpy, by rw [D0, dPc_no (by omega) (by omega) (by omega), hd.1 _ _ (by omega) (by omega) (by omega)]; exact h8⟩
  · rw [dPc_0, e01] at k1
    exact pcs_add h5 hd (.inl n0) hp (by omega) k k0 k1
  · rw [D0]; exact h6.pc h1.1 h0 hd n0
/-- what the pieces of a text leave -/
def txQ (C H S : Int) (O : Int → Int → Int → Int → Int) (s t : jS) (e d z : Int → Int → Int) (x sz : Int) (r : jS × Bool × Int) (q : jS × Int) : Prop := (lkX C H s t (3 * (257 - d 0 1)) (24 * (257 - d 0 1)) r q.1 ∧ q.2 = 0) ∨ (r.2.1 = false ∧ q.2 = 1 ∧ ∃ d' z' y', sK d z d' z' ∧ LBR C H r.1 q.1 d' z' ∧ LBL C H S O r.1 q.1 e d' y' ∧ (∀ k, 0 ≤ k → k < d' 0 1 → pcI O d' z' k ∧ z' 3 k ≤ x) ∧ (pCt d' z' (d 0 0 - 1) sz ∧ pcYs S O e d' y' z') ∧ (cBW C s r.1 (3 * (d' 0 1 - d 0 1)) (24 * (d' 0 1 - d 0 1)) ∧ tBW H t q.1) ∧ jRb C H s t r.1 q.1)
theorem txQ.pre {r : jS × Bool × Int} {q : jS × Int} (h : txQ C H S O u w e d' z' x N r q) (hk : sK d z d' z') (g : cBW C s u (3 * (d' 0 1 - d 0 1)) (24 * (d' 0 1 - d 0 1))) (g' : tBW H t w) (gr : jRb C H s t u w) (hp : cPool u (C + 4275 + 1)) : txQ C H S O s t e d z x N r q := by
  rcases h with ⟨h1, h2⟩ | ⟨h1, h2, d2, z2, y2, h3, h4, h5, h6, h7, ⟨h8, h9⟩, h10⟩
  · exact .inl ⟨(h1.pre (g.lf hp) g'.lf).mono (by omega) (by omega), h2⟩
  · exact .inr ⟨h1, h2, d2, z2, y2, hk.trans h3, h4, h5, h6, by rw [← hk.1.1]; exact h7, ⟨(g.trans h8).mono (by omega) (by omega), g'.trans h9⟩, gr.trans h10⟩
/-- one piece, taken as a step -/
theorem pc_st {r : jS × Bool × Int} {q : jS × Int} (h : txI C H S O s t e d z y x a) (h0 : 0 < d 0 0) (n0 : 0 < n) (hp : pcN O Si m a n rr x) (hq : pcQ C H S O s t e d z y 3 24 a n rr x Si m r q) (hb : jBd s (3 * (257 - d 0 1)) (24 * (257 - d 0 1))) : (lkX C H s t (3 * (257 - d 0 1)) (24 * (257 - d 0 1)) r q.1 ∧ q.2 = 0) ∨ (r.2.1 = false ∧ q.2 = 1 ∧ ∃ d' z' y', d' 0 1 = d 0 1 + 1 ∧ txI C H S O r.1 q.1 e d' z' y' x (a + n) ∧ sK d z d' z' ∧ cBW C s r.1 (3 * (d' 0 1 - d 0 1)) (24 * (d' 0 1 - d 0 1)) ∧ tBW H t q.1 ∧ jRb C H s t r.1 q.1 ∧ jBd r.1 (3 * (257 - d' 0 1)) (24 * (257 - d' 0 1))) := by
  have v1 := h.1.1.2.1
  rcases hq with ⟨h1, h2⟩ | ⟨h1, h2, h3, d', y', w0, l0, c0, z0, hd, ⟨hyk, hpy⟩, hB, hL, ⟨g, g'⟩, gr⟩
  · exact .inl ⟨h1.mono (by omega) (by omega), h2⟩
  · have e01 : d' 0 1 = d 0 1 := hd.1 _ _ (by omega) (by omega) (by omega)
    have D1 : dPc d' Si m w0 l0 c0 z0 0 1 = d 0 1 + 1 := by rw [dPc_0, e01]
    refine .inr ⟨h1, h2, _, _, y', D1, h.add h0 hd hB hL g g' gr n0 hp hyk hpy, sK.pc hd, by rw [D1]; exact g.mono (by omega) (by omega), g', gr, ?_⟩
    rw [D1]
    obtain ⟨a1, a2, a3, a4, a5, -⟩ := g.1.1
    exact ⟨by have := hb.1; omega, by have := hb.2; omega⟩
/-- the end of a text -/
theorem tx_end (h : txI C H S O s t e d z y x a) (hp : 0 < d 0 0) (x0 : 0 ≤ x) (x1 : x < 6) (a0 : 0 ≤ a) (a1 : a ≤ N) (hN : N ≤ 2048) (hS : sIn S x) (hNs : N = O x 1 0 0) (hb : jBd s (3 * (257 - d 0 1)) (24 * (257 - d 0 1))) : ∃ r q, u_X35_textPieces_161 s (C + 4275) (d 0 0 - 1) x a N = some r ∧ u_X37_textPieces_86 t H x (d 0 0 - 1) a = some q ∧ txQ C H S O s t e d z x N r q := by
  obtain ⟨h1, h2, h3, h4, h5, h6, h7, -⟩ := id h
  obtain ⟨hk, -, -, -⟩ := id h3
  obtain ⟨hC, -, hrd, -, -, ht⟩ := id hk
  obtain ⟨-, hu, -, -⟩ := hrd x x0 x1 hS
  have v0 := h1.1.1
  have v1 := h1.1.2.1
  have hpp := h1.1.ptN hp
  have c29 := (h1.2.1.2.2.2 (d 0 0 - 1) (by omega) (by omega))
  have t200 := (h1.2.2.2.2.1 (d 0 0 - 1) (by omega) (by omega))
  have d34 := (h1.1.2.2.2.2.1 (d 0 0 - 1) (by omega) (by omega)).2.2.1
  have hz : jf t 1000 (H + 171) (4 * x) = N := by
    have := (hu.1 0 (by decide) (by decide)).1
    rw [Int.add_zero] at this; rw [this, hNs]
  have key : ∃ r q, u_X35_textPieces_183 s (C + 4275) (d 0 0 - 1) x a N = some r ∧ u_X37_textPieces_112 t H (d 0 0 - 1) a (N - a) = some q ∧ txQ C H S O s t e d z x N r q := by
    rw [eu_X35_textPieces_183, eu_X37_textPieces_112]; unfold du_X35_textPieces_183 du_X37_textPieces_112
    rw [W32_in (by omega) (by omega)]
    obtain ⟨q2, e1, -, r, q, e2, e3, hq⟩ := x_plain2 (x := x) (a := a) (n := N - a) h1 h2 hp ⟨by have := hb.1; omega, by have := hb.2; omega⟩ hC ht (by omega)
    rw [e1, Option.bind_some, e2, Option.bind_some, e3, Option.bind_some]
    rcases hq with ⟨b1, b2⟩ | ⟨b1, b2, b3, d', y', w0, l0, c0, z0, hd, ⟨hyk, hpy⟩, hB, hL, ⟨g, g'⟩, gr⟩
    · rw [b1.1.1, if_pos b2]
      exact ⟨_, _, rfl, rfl, .inl ⟨⟨⟨rfl, b1.1.2⟩, (b1.mono (by omega) (by omega)).2⟩, Wz_0⟩⟩
    · rw [b1, jth_ff, if_neg (by omega)]
      have e01 : d' 0 1 = d 0 1 := hd.1 _ _ (by omega) (by omega) (by omega)
      have D1 : dPc d' 0 (N - a) w0 l0 c0 z0 0 1 = d 0 1 + 1 := by rw [dPc_0, e01]
      refine ⟨_, _, rfl, rfl, .inr ⟨rfl, Wz_1, _, _, y', sK.pc hd, hB, hL, fun k k0 k1 => ?_, ⟨?_, h7.add h1.1 hd hyk hpy⟩, ⟨by rw [D1]; exact g.mono (by omega) (by omega), g'⟩, gr⟩⟩
      · rw [D1] at k1
        have := pcs_add (w0 := w0) (l0 := l0) (c0 := c0) (z0 := z0) h5 hd (n := N - a) (rr := -1) (Si := 0) (m := N - a) (.inr rfl) ⟨by omega, .inl ⟨rfl, rfl, rfl⟩⟩ (by omega) k k0 k1
        exact ⟨this.1, this.2.2⟩
      · have := h6.last (Si := 0) (m := N - a) (w0 := w0) (l0 := l0) (c0 := c0) (z0 := z0) (n := N - a) (rr := -1) (x := x) h1.1 hp hd
        rw [show a + (N - a) = N by omega] at this; exact this
  rw [eu_X35_textPieces_161, eu_X37_textPieces_86]; unfold du_X35_textPieces_161 du_X37_textPieces_86
  simp only [jlet]
  have J1 : jlt t 1000 (H + 171) 24 (4 * x) = some N := by rw [jlt_in (by omega) (by omega), hz]
  have J2 : jlt s 1000 (C + 4275 + 30) 32 (d 0 0 - 1) = some (d 4 (d 0 0 - 1)) := by rw [jlt_in (by omega) (by omega), c29.2]
  have J3 : jlt s 1000 (C + 4275 + 29) 32 (d 0 0 - 1) = some (d 3 (d 0 0 - 1)) := by rw [jlt_in (by omega) (by omega), c29.1]
  have J4 : jlt t 1000 (H + 201) 32 (d 0 0 - 1) = some (d 4 (d 0 0 - 1) - d 3 (d 0 0 - 1)) := by rw [jlt_in (by omega) (by omega), t200.2]
  rw [W32_in (z := 4 * x) (by omega) (by omega), J1, Option.bind_some, W32_in (z := N - a) (by omega) (by omega)]
  by_cases c : a < N
  · rw [if_pos c, if_neg (by omega)]; exact key
  · rw [if_neg c, if_pos (show N - a = 0 by omega), J2, J3, J4, Option.bind_some, Option.bind_some, Option.bind_some]
    by_cases c2 : d 4 (d 0 0 - 1) = d 3 (d 0 0 - 1)
    · rw [if_pos c2, if_neg (by omega)]; exact key
    · rw [if_neg c2, if_pos (by omega)]
      refine ⟨_, _, rfl, rfl, .inr ⟨rfl, Wz_1, d, z, y, sK.rfl, h1, h2, fun k k0 k1 => ⟨(h5 k k0 k1).1, (h5 k k0 k1).2.2⟩, ⟨?_, h7⟩, ⟨cBW.rfl.mono (by omega) (by omega), tBW.rfl⟩, jRb.rfl⟩⟩
      have := h6.all (by omega)
      rw [show a = N by omega] at this; exact this
end jTxl
