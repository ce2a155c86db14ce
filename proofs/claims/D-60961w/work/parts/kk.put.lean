/-! the linker: any piece is laid out, both sides *-/
set_option maxRecDepth 100000
section jPut
variable {s t u w r q' : jS} {a b g k m n p v l x y c j X f i H C P Q P' Q' S Si w0 l0 c0 z0 rr : Int} {O : Int → Int → Int → Int → Int} {o : Int → Int → Int → Int} {d d' e z : Int → Int → Int} {E V : Int → Int}
/-- the layout does not look at the linker's own rows -/
theorem cBu.fr (h : cBu u (C + 4275 + 1) d) (v : vLy d) (sm : jSm u w) (F : ∀ c a k, ¬ (c = 1000 ∧ C + 4275 + 22 ≤ a ∧ a ≤ C + 4275 + 32) → ¬ (c = 39 ∧ a = C + 4275) → ¬ (c = 1002 ∧ a = C + 4275 + 37) → jf w c a k = jf u c a k) : cBu w (C + 4275 + 1) d :=
  h.cg (h.1.cg v (by rw [sm.2.2.1]; exact Int.le_refl _) (fun a _ => by rw [sm.1, sm.2.1]; exact ⟨rfl, rfl⟩) (fun k k0 k1 => F _ _ _ (by omega) (by omega) (by omega)) (fun k => F _ _ _ (by omega) (by omega) (by omega)) (fun p _ _ => F _ _ _ (by omega) (by omega) (by omega)) (fun p _ _ => F _ _ _ (by omega) (by omega) (by omega)) (fun p _ _ => F _ _ _ (by omega) (by omega) (by omega)) (fun p _ _ k => F _ _ _ (by omega) (by omega) (by omega)) (fun p _ _ c j hc => F _ _ _ (by omega) (by omega) (by omega)) (fun p _ _ k => F _ _ _ (by omega) (by omega) (by omega))) (by rw [sm.2.2.1]; exact Int.le_refl _) (fun x _ => by rw [sm.1]) (fun c a k hq => F _ _ _ (by omega) (by omega) (by omega)) (fun k => F _ _ _ (by omega) (by omega) (by omega)) (fun k _ _ => F _ _ _ (by omega) (by omega) (by omega)) (by rw [F _ _ _ (by omega) (by omega) (by omega)]; exact h.2.2.1) rfl fun _ => rfl
theorem tLs.fr (h : tLs t X d) (F : ∀ c a k, c = 45 ∧ a = X ∨ X + 1 ≤ a ∧ a ≤ X + 24 → jf u c a k = jf t c a k) : tLs u X d := by
  obtain ⟨a1, a2, a3, a4, a5, a6, a7⟩ := h
  refine ⟨by rw [F _ _ _ (.inl ⟨rfl, rfl⟩), F _ _ _ (.inl ⟨rfl, rfl⟩), F _ _ _ (.inl ⟨rfl, rfl⟩), F _ _ _ (.inl ⟨rfl, rfl⟩)]; exact a1, fun i o0 o1 => by rw [F _ _ _ (by omega)]; exact a2 i o0 o1, fun p p0 q1 => by rw [F _ _ _ (by omega), F _ _ _ (by omega)]; exact a3 p p0 q1, fun p p0 q1 => by rw [F _ _ _ (by omega)]; exact a4 p p0 q1, fun k k0 k1 => ?_, fun k k0 k1 hk => by rw [F _ _ _ (by omega)]; exact a6 k k0 k1 hk, fun l l0 l1 => by rw [F _ _ _ (by omega), F _ _ _ (by omega)]; exact a7 l l0 l1⟩
  have := a5 k k0 k1
  rw [F _ (X + 11) _ (by omega), F _ (X + 12) _ (by omega), F _ (X + 13) _ (by omega), F _ (X + 14) _ (by omega), F _ (X + 15) _ (by omega), F _ (X + 16) _ (by omega), F _ (X + 17) _ (by omega), F _ (X + 18) _ (by omega), F _ (X + 19) _ (by omega)]
  exact this
theorem cBW.sm (sm : jSm u w) (F : ∀ c b k, ¬ (c = 1000 ∧ C + 4275 + 22 ≤ b ∧ b ≤ C + 4275 + 32) → ¬ (c = 39 ∧ b = C + 4275 ∧ 29 ≤ k ∧ k ≤ 31) → ¬ (c = 1002 ∧ b = C + 4275 + 37) → jf w c b k = jf u c b k) : cBW C u w 0 0 :=
  ⟨jGw.sm sm fun c a k hA => F c a k (fun z => hA (.inl (by omega))) (fun z => hA (.inl (by omega))) (fun z => hA (.inl (by omega))), fun c a k _ _ q3 q4 q5 => F c a k q4 q3 q5⟩
/-- a piece's row behind any of the layout's -/
theorem x_put {r1 q1 : jS × Int} (h : LBR C H s t d z) (h0 : 0 < d 0 0) (hb : jBd s 2 15) (hC : 0 ≤ C ∧ C + 15464 ≤ jn s) (ht : jf t 41 H 99 = 0) (v' : d 0 1 < 256 → vLy (dPc d Si m w0 l0 c0 z0)) (e1 : lpO s (C + 4275 + 1) (d 0 1) 256 (dPc d Si m w0 l0 c0 z0) r1) (e2 : tpO t (H + 93) (d 0 1) 256 (dPc d Si m w0 l0 c0 z0) q1) (hr : y = if rr = -1 then -1 else rr % 300) (hz : rr = -1 ∨ (0 ≤ rr ∧ rr < 1800) ∧ ∀ k, 0 ≤ k → k < d 0 1 → ¬ z 2 k = rr) : ∃ r q, m_X35_piece r1.1 (C + 4275) r1.2 (d 0 0 - 1) x a n y = some r ∧ m_X37_added q1.1 H q1.2 (d 0 0 - 1) a n rr = some (q, if d 0 1 < 256 then 1 else 0) ∧ bQ C H s t 2 15 (dPc d Si m w0 l0 c0 z0) (zP z (d 0 1) a n rr x) r q (d 0 1 < 256) := by
  obtain ⟨v, ⟨hc, hzc⟩, hl, hy⟩ := h
  have v0 := v.1
  have v1 := v.2.1
  rcases e1 with ⟨c1, rfl⟩ | ⟨c1, r2, r3, r4⟩
  · rcases e2 with ⟨-, rfl⟩ | ⟨c2, -⟩
    · rw [em_X35_piece, em_X37_added]; unfold dm_X35_piece dm_X37_added
      dsimp only
      rw [if_pos rfl, if_pos rfl]
      obtain ⟨u, x, w, e1, e2, x0, hx⟩ := lkX.mk (C := C) (H := H) (f := 6) (s := s) (t := t) (by omega) ⟨by have := hb.1; omega, by have := hb.2; omega⟩ (by omega) ht (by decide) (-1) (-1)
      rw [e1, e2, Option.bind_some, Option.bind_some]
      dsimp only
      rw [jck0_in x0, if_neg (by omega), Wz_0]
      exact ⟨_, _, rfl, rfl, .inl ⟨hx.mono (by omega) (by omega), by omega⟩⟩
    · omega
  · rcases e2 with ⟨c2, -⟩ | ⟨c2, q2, q3, q4⟩
    · omega
    rw [r2, q2, if_pos c1]
    obtain ⟨w1, e1, p1, m1, F1⟩ := c_piece (Si := Si) (m := m) (w0 := w0) (l0 := l0) (c0 := c0) (z0 := z0) (x := x) (a := a) (n := n) (u := r1.1) (hzc.cg (fun a k a0 a1 => r4.2 _ _ _ (by omega) (by omega)) (r4.2 _ _ _ (by omega) (by omega))) v h0 c1 hr
    obtain ⟨w2, e2, p2, m2, F2⟩ := t_piece (Si := Si) (m := m) (w0 := w0) (l0 := l0) (c0 := c0) (z0 := z0) (x := x) (a := a) (n := n) (u := q1.1) (hy.cg (fun a k a0 a1 => q4.2 _ _ _ (by omega) (by omega))) v h0 c1 hz
    rw [e1, e2]
    refine ⟨_, _, rfl, rfl, .inr ⟨rfl, c1, ⟨v' c1, ⟨r3.fr (v' c1) m1 fun c a k g1 g2 g3 => F1 _ _ _ (by omega) (by omega), p1⟩, q3.fr fun c a k g1 => F2 _ _ _ (by omega), p2⟩, ?_, ?_, ⟨⟨fun a k ha => by rw [F1 _ _ _ (by omega) (by omega), r4.2 _ _ _ (by omega) (by omega)], by rw [F1 _ _ _ (by omega) (by omega), r4.2 _ _ _ (by omega) (by omega)], fun k => by rw [F1 _ _ _ (by omega) (by omega), r4.2 _ _ _ (by omega) (by omega)]⟩, fun a k ha => by rw [F2 _ _ _ (by omega), q4.2 _ _ _ (by omega) (by omega)]⟩⟩⟩
    · exact (r4.bw.trans (cBW.sm m1 fun c b k g1 g2 g3 => F1 _ _ _ (by omega) (by omega))).mono (by omega) (by omega)
    · exact (tbW.bw q4).trans ⟨m2, fun c a k g1 g2 => F2 _ _ _ (by omega)⟩
/-- a plain piece -/
theorem x_plain (h : LBR C H s t d z) (h0 : 0 < d 0 0) (hb : jBd s 2 15) (hC : 0 ≤ C ∧ C + 15464 ≤ jn s) (ht : jf t 41 H 99 = 0) (hn : 0 ≤ n ∧ n ≤ 4096) : ∃ r q, ((m_X36_plain s (C + 4275 + 1) (d 0 0 - 1) n).bind fun q => m_X35_piece q.1 (C + 4275) q.2 (d 0 0 - 1) x a n (-1)) = some r ∧ m_X37_plainPiece t H (d 0 0 - 1) a n = some (q, if d 0 1 < 256 then 1 else 0) ∧ bQ C H s t 2 15 (dPc d 0 n 0 0 0 0) (zP z (d 0 1) a n (-1) x) r q (d 0 1 < 256) := by
  obtain ⟨v, ⟨hc, hzc⟩, hl, hy⟩ := h
  rw [em_X37_plainPiece]; unfold dm_X37_plainPiece
  obtain ⟨r1, e1, h1⟩ := c_lplain hc v h0 ⟨by have := hb.1; omega, by have := hb.2; omega⟩ hn
  obtain ⟨q1, e2, h2⟩ := t_lplain hl v h0 hn
  rw [e1, e2, Option.bind_some, Option.bind_some]
  obtain ⟨r, q, e3, e4, h3⟩ := x_put (x := x) (a := a) (n := n) (y := -1) (rr := -1) ⟨v, ⟨hc, hzc⟩, hl, hy⟩ h0 hb hC ht (fun c => v.pc h0 c (by omega) (fun _ => hn) (fun q => absurd q (by decide)) fun q => absurd q (by decide)) h1 h2 rfl (.inl rfl)
  rw [e3, e4, Option.bind_some]
  refine ⟨r, q, rfl, ?_, h3⟩
  dsimp only
  rw [Wz_ic]
end jPut
