/-! the linker: steps of laying out, told from the start, both sides *-/
set_option maxRecDepth 100000
section jLst
variable {s t u w s' t' s0 t0 q' : jS} {a b g k m n p v l x y0 c j X f i H C P Q P' Q' S Si w0 l0 c0 z0 N M rr : Int} {O : Int → Int → Int → Int → Int} {o : Int → Int → Int → Int} {d d' d2 e z z' z2 y y' : Int → Int → Int}
theorem tPz.c2 (h : tPz H t d z) (F : ∀ a k, H + 197 ≤ a → a ≤ H + 203 → ¬ a = H + 202 → jf u 1000 a k = jf t 1000 a k) : tPz H u d z := by
  obtain ⟨h1, h2, h3, h4⟩ := h
  exact ⟨fun k k0 k1 => by rw [F _ _ (by omega) (by omega) (by omega), F _ _ (by omega) (by omega) (by omega), F _ _ (by omega) (by omega) (by omega)]; exact h1 k k0 k1, fun p p0 p1 => by rw [F _ _ (by omega) (by omega) (by omega), F _ _ (by omega) (by omega) (by omega)]; exact h2 p p0 p1, fun k k0 k1 => by rw [F _ _ (by omega) (by omega) (by omega)]; exact h3 k k0 k1, fun i i0 i1 hi => by rw [F _ _ (by omega) (by omega) (by omega)]; exact h4 i i0 i1 hi⟩
/-- between steps, from the start at s0, t0 -/
def lpS (C H S : Int) (O : Int → Int → Int → Int → Int) (s0 t0 s t : jS) (e d z y : Int → Int → Int) : Prop := LBR C H s t d z ∧ LBL C H S O s t e d y ∧ LB0 C H S O s t e ∧ cBW C s0 s (3 * d 0 1 + 2 * d 0 0) (24 * d 0 1 + 15 * d 0 0) ∧ tBW H t0 t ∧ pcYs S O e d y z
theorem lpS.bd (h : lpS C H S O s0 t0 s t e d z y) (hb : jBd s0 837 6663) : jBd s (3 * (257 - d 0 1) + 2 * (33 - d 0 0)) (24 * (257 - d 0 1) + 15 * (33 - d 0 0)) := by
  obtain ⟨a1, a2, a3, a4, a5, -⟩ := h.2.2.2.1.1.1
  exact ⟨by have := hb.1; omega, by have := hb.2; omega⟩
/-- a row of the twin's that is none of the layout's -/
theorem lpS.w202 (h : lpS C H S O s0 t0 s t e d z y) (E : u = jp t 1000 (H + 202) k v) : lpS C H S O s0 t0 s u e d z y := by
  obtain ⟨h1, h2, h3, h4, h5, hy⟩ := h
  obtain ⟨F, -, -⟩ := jpF E
  exact ⟨⟨h1.1, h1.2.1, h1.2.2.1.fr fun c a k hq => F _ _ _ (by omega), h1.2.2.2.c2 fun a k a0 a1 a2 => F _ _ _ (by omega)⟩, ⟨h2.1, h2.2.1, fun k k0 k1 => by rw [F _ _ _ (by omega)]; exact h2.2.2 k k0 k1⟩, h3.bw .rfl (tBW.rfl.wr E (by omega)), h4, h5.wr E (by omega), hy⟩
/-- the rows of shared parts -/
theorem lpS.wsh (h : lpS C H S O s0 t0 s t e d z y) (E : u = jp s 1000 (C + 4275 + 22) k v) (E' : w = jp t 1000 (H + 195) k v) : lpS C H S O s0 t0 u w e d z y := by
  obtain ⟨h1, h2, h3, h4, h5, hy⟩ := h
  obtain ⟨F, -, -⟩ := jpF E
  obtain ⟨G, -, -⟩ := jpF E'
  refine ⟨⟨h1.1, ⟨h1.2.1.1.fr h1.1 (jSm.rfl.wr E) fun c a k q1 q2 q3 => F _ _ _ (by omega), h1.2.1.2.cg (fun a k a0 a1 => F _ _ _ (by omega)) (F _ _ _ (by omega))⟩, h1.2.2.1.fr fun c a k hq => G _ _ _ (by omega), h1.2.2.2.c2 fun a k a0 a1 a2 => G _ _ _ (by omega)⟩, ⟨h2.1, ?_, fun k k0 k1 => by rw [G _ _ _ (by omega)]; exact h2.2.2 k k0 k1⟩, h3.bw (cBW.rfl.wr E (by omega) (by omega)) (tBW.rfl.wr E' (by omega)), h4.wr E (by omega) (by omega), h5.wr E' (by omega), hy⟩
  obtain ⟨l2, l3, l4, l5⟩ := h2.2.1
  exact ⟨by rw [F _ _ _ (by omega)]; exact l2, fun X hX h0 => by rw [F _ _ _ (by omega)]; exact l3 X hX h0, fun g g0 g1 => by rw [F _ _ _ (by omega)]; exact l4 g g0 g1, fun l l0 l1 => by rw [F _ _ _ (by omega), F _ _ _ (by omega)]; exact l5 l l0 l1⟩
theorem pcYs.pt (h : pcYs S O e d y z) (v : vLy d) : pcYs S O e (dPt d i n) y z := ⟨fun k k0 k1 => by
  rw [dPt_no (by omega) (by omega)] at k1
  have l11 := (v.2.2.2.2.2.2.1 k k0 k1).2.1
  have := h.1 k k0 k1
  unfold pcY mvK grK at this ⊢
  rw [dPt_no (f := 11) (by omega) (by omega), dPt_no (f := 1) (by omega) (by omega), dPt_no (f := 5) (by omega) (by omega), dPt_no (f := 10) (by omega) (by omega), dPt_no (f := 8) (by omega) (by omega), dPt_no (f := 9) (by omega) (by omega), dPt_no (f := 15) (by omega) (by omega)]; exact this, fun l l0 l1 => by
  rw [dPt_no (by omega) (by omega)] at l1 ⊢; exact h.2 l l0 l1⟩
theorem lp_part (h : lpS C H S O s0 t0 s t e d z y) (hb : jBd s0 837 6663) (ho : 0 ≤ p ∧ p < 4) (hn : pPw n) : ∃ r q, m_X35_part s (C + 4275) p n = some r ∧ m_X37_newPart t H p n = some q ∧ ((q.2 = -1 ∧ lkX C H s0 t0 837 6663 r q.1) ∨ (r.2.1 = false ∧ q.2 = d 0 0 ∧ d 0 0 < 32 ∧ r.2.2 = d 0 0 ∧ lpS C H S O s0 t0 r.1 q.1 e (dPt d p (lgF n)) z y ∧ jRc C H s t r.1 q.1)) := by
  have bd := h.bd hb
  obtain ⟨h1, h2, h3, h4, h5, hy⟩ := h
  have v0 := h1.1.1
  have v1 := h1.1.2.1
  obtain ⟨r, q, e1, e2, h6, h7⟩ := x_part h1 ⟨by have := bd.1; omega, by have := bd.2; omega⟩ h3.1.1 h3.1.2.2.2.2.2 ho hn
  refine ⟨r, q, e1, e2, ?_⟩
  rcases h7 with ⟨b1, b2⟩ | ⟨b1, b2, b3, b4, b5, b6⟩
  · exact .inl ⟨Decidable.not_not.mp b2, (b1.pre (h4.lf h1.2.1.1.2.1) h5.lf).mono (by omega) (by omega)⟩
  · rcases h6 with c | ⟨c1, c2, c3⟩
    · exact absurd c b2
    · refine .inr ⟨b1, c1, c2, c3, ⟨b3, h2.cg (dPt_no (by omega) (by omega)) b6, h3.bw b4 b5, ?_, h5.trans b5, hy.pt h1.1⟩, b6.rb.rc⟩
      rw [dPt_0, dPt_no (by omega) (by omega)]
      exact (h4.trans b4).mono (by omega) (by omega)
theorem lp_text (h : lpS C H S O s0 t0 s t e d z y) (hb : jBd s0 837 6663) (x0 : 0 ≤ x) (x1 : x < 6) (hS : sIn S x) (hp : 0 < d 0 0) (he : d 3 (d 0 0 - 1) = d 4 (d 0 0 - 1)) (hpc : ∀ k, 0 ≤ k → k < d 0 1 → pcI O d z k ∧ z 3 k < x) (hp1 : d 1 (d 0 0 - 1) = 0 ∧ d 0 0 - 1 = 4 * nIn S x.toNat ∧ sIn S x) : ∃ r q, m_X35_textPieces s (C + 4275) (d 0 0 - 1) x = some r ∧ m_X37_textPieces t H x (d 0 0 - 1) = some q ∧ ((q.2 = 0 ∧ lkX C H s0 t0 837 6663 r q.1) ∨ (r.2.1 = false ∧ q.2 = 1 ∧ ∃ d' z' y', sK d z d' z' ∧ lpS C H S O s0 t0 r.1 q.1 e d' z' y' ∧ (∀ k, 0 ≤ k → k < d' 0 1 → pcI O d' z' k ∧ z' 3 k ≤ x) ∧ pCt d' z' (d 0 0 - 1) (O x 1 0 0) ∧ jRc C H s t r.1 q.1)) := by
  have bd := h.bd hb
  obtain ⟨h1, h2, h3, h4, h5, hy⟩ := h
  have v0 := h1.1.1
  have v1 := h1.1.2.1
  obtain ⟨r, q, e1, e2, h6⟩ := x_text h1 h2 h3 x0 x1 hS hp he hpc hy hp1 ⟨by have := bd.1; omega, by have := bd.2; omega⟩
  refine ⟨r, q, e1, e2, ?_⟩
  rcases h6 with ⟨b1, b2⟩ | ⟨b1, b2, d', z', y', b3, b4, b5, b6, ⟨b7, by7⟩, ⟨b8, b9⟩, ba⟩
  · exact .inl ⟨b2, (b1.pre (h4.lf h1.2.1.1.2.1) h5.lf).mono (by omega) (by omega)⟩
  · have v1' := b4.1.2.1
    have k1 := b3.1
    exact .inr ⟨b1, b2, d', z', y', b3, ⟨b4, b5, h3.bw b8 b9, (h4.trans b8).mono (by omega) (by omega), h5.trans b9, by7⟩, b6, b7, ba⟩
theorem lp_plain (h : lpS C H S O s0 t0 s t e d z y) (hb : jBd s0 837 6663) (hp : 0 < d 0 0) (he : d 3 (d 0 0 - 1) = d 4 (d 0 0 - 1)) (hn : 0 ≤ n ∧ n ≤ 4096) (hpc : ∀ k, 0 ≤ k → k < d 0 1 → pcI O d z k ∧ z 3 k ≤ m) (hx : x ≤ m) : ∃ q2, m_X36_plain s (C + 4275 + 1) (d 0 0 - 1) n = some q2 ∧ (cBW C s q2.1 1 9 ∧ ∀ k, jf q2.1 1000 (C + 4275 + 22) k = jf s 1000 (C + 4275 + 22) k) ∧ ∃ r q, m_X35_piece q2.1 (C + 4275) q2.2 (d 0 0 - 1) x 0 n (-1) = some r ∧ m_X37_plainPiece t H (d 0 0 - 1) 0 n = some q ∧ ((q.2 = 0 ∧ lkX C H s0 t0 837 6663 r q.1) ∨ (r.2.1 = false ∧ q.2 = 1 ∧ ∃ d' z' y', sK d z d' z' ∧ lpS C H S O s0 t0 r.1 q.1 e d' z' y' ∧ (∀ k, 0 ≤ k → k < d' 0 1 → pcI O d' z' k ∧ z' 3 k ≤ m) ∧ pCt d' z' (d 0 0 - 1) n ∧ jRc C H s t r.1 q.1)) := by
  have bd := h.bd hb
  obtain ⟨h1, h2, h3, h4, h5, hy⟩ := h
  have v0 := h1.1.1
  have v1 := h1.1.2.1
  obtain ⟨q2, e1, g1, r, q, e2, e3, h6⟩ := x_plain2 (x := x) (a := 0) (n := n) h1 h2 hp ⟨by have := bd.1; omega, by have := bd.2; omega⟩ h3.1.1 h3.1.2.2.2.2.2 hn
  refine ⟨q2, e1, g1, r, q, e2, e3, ?_⟩
  rcases h6 with ⟨b1, b2⟩ | ⟨b1, b2, b3, d', y', w0, l0, c0, z0, hd, ⟨hyk, hpy⟩, hB, hL, ⟨g, g'⟩, gr⟩
  · exact .inl ⟨b2, (b1.pre (h4.lf h1.2.1.1.2.1) h5.lf).mono (by omega) (by omega)⟩
  · have e01 : d' 0 1 = d 0 1 := hd.1 _ _ (by omega) (by omega) (by omega)
    have e00 : d' 0 0 = d 0 0 := hd.1 _ _ (by omega) (by omega) (by omega)
    have D1 : dPc d' 0 n w0 l0 c0 z0 0 1 = d 0 1 + 1 := by rw [dPc_0, e01]
    have D0 : dPc d' 0 n w0 l0 c0 z0 0 0 = d 0 0 := by rw [dPc_no (by omega) (by omega) (by omega), e00]
    refine .inr ⟨b1, b2, _, _, y', sK.pc hd, ⟨hB, hL, h3.bw g g', by rw [D1, D0]; exact (h4.trans g).mono (by omega) (by omega), h5.trans g', hy.add h1.1 hd hyk hpy⟩, fun k k0 k1 => ?_, ?_, gr.rc⟩
    · rw [D1] at k1
      by_cases c : k = d 0 1
      · obtain ⟨z1, z2, z3, z4⟩ := zP_at (z := z) (p := d 0 1) (a := 0) (n := n) (rr := -1) (x := x)
        rw [c, z4]
        exact ⟨pcN.pc ⟨by omega, .inl ⟨rfl, rfl, rfl⟩⟩ e01, hx⟩
      · have zo : ∀ f, zP z (d 0 1) 0 n (-1) x f k = z f k := fun f => zP_no (by omega)
        obtain ⟨q1, q2⟩ := hpc k k0 (by omega)
        rw [zo]
        refine ⟨q1.eq (fun f _ _ => zo f) ?_ ?_, q2⟩
        · rw [dPc_no (by omega) (by omega) (by omega)]; exact hd.1 _ _ (by omega) (by omega) (by omega)
        · rw [dPc_no (by omega) (by omega) (by omega)]; exact hd.1 _ _ (by omega) (by omega) (by omega)
    · have hi : pCi d z (d 0 0 - 1) 0 := .inl ⟨he, rfl⟩
      have := hi.last (Si := 0) (m := n) (w0 := w0) (l0 := l0) (c0 := c0) (z0 := z0) (n := n) (rr := -1) (x := x) h1.1 hp hd
      rw [Int.zero_add] at this; exact this
/-- parts of before -/
theorem pCt.pt (h : pCt d z p a) (p0 : 0 ≤ p) (p1 : p < d 0 0) : pCt (dPt d i n) z p a := by
  unfold pCt at *
  rw [dPt_no (by omega) (by omega), dPt_no (by omega) (by omega)]; exact h
theorem pcI.pt (h : pcI O d z k) : pcI O (dPt d i n) z k := h.eq (fun _ _ _ => rfl) (dPt_no (by omega) (by omega)) (dPt_no (by omega) (by omega))
end jLst
