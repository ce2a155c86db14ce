/-! the linker: pieces of a text, pure; a plain piece told as a taken one *-/
set_option maxRecDepth 100000
section jTxp
variable {s t u w s' t' q' : jS} {a b g k m n p v l x y0 c j X f i H C P Q P' Q' S Si w0 l0 c0 z0 N M rr : Int} {O : Int → Int → Int → Int → Int} {o : Int → Int → Int → Int} {d d' d2 e z z' z2 y y' : Int → Int → Int}
theorem lpO.r22 {r : jS × Int} (h : lpO s (C + 4275 + 1) N M e r) (k : Int) : jf r.1 1000 (C + 4275 + 22) k = jf s 1000 (C + 4275 + 22) k := by
  rcases h with ⟨-, rfl⟩ | ⟨-, -, -, h⟩
  · rfl
  · exact h.2 _ _ _ (by omega) (by omega)
theorem x_plain2 (h : LBR C H s t d z) (hL : LBL C H S O s t e d y) (h0 : 0 < d 0 0) (hb : jBd s 2 15) (hC : 0 ≤ C ∧ C + 15464 ≤ jn s) (ht : jf t 41 H 99 = 0) (hn : 0 ≤ n ∧ n ≤ 4096) : ∃ q2, m_X36_plain s (C + 4275 + 1) (d 0 0 - 1) n = some q2 ∧ (cBW C s q2.1 1 9 ∧ ∀ k, jf q2.1 1000 (C + 4275 + 22) k = jf s 1000 (C + 4275 + 22) k) ∧ ∃ r q, m_X35_piece q2.1 (C + 4275) q2.2 (d 0 0 - 1) x a n (-1) = some r ∧ m_X37_plainPiece t H (d 0 0 - 1) a n = some q ∧ pcQ C H S O s t e d z y 2 15 a n (-1) x 0 n r q := by
  obtain ⟨v, ⟨hc, hzc⟩, hl, hy⟩ := h
  rw [em_X37_plainPiece]; unfold dm_X37_plainPiece
  obtain ⟨r1, e1, h1⟩ := c_lplain hc v h0 ⟨by have := hb.1; omega, by have := hb.2; omega⟩ hn
  obtain ⟨q1, e2, h2⟩ := t_lplain hl v h0 hn
  rw [e1, e2, Option.bind_some]
  obtain ⟨r, q, e3, e4, h3⟩ := x_put (x := x) (a := a) (n := n) (y := -1) (rr := -1) ⟨v, ⟨hc, hzc⟩, hl, hy⟩ h0 hb hC ht (fun c => v.pc h0 c (by omega) (fun _ => hn) (fun q => absurd q (by decide)) fun q => absurd q (by decide)) h1 h2 rfl (.inl rfl)
  rw [e4, Option.bind_some]
  refine ⟨r1, rfl, ⟨h1.bw, h1.r22⟩, r, _, e3, rfl, ?_⟩
  dsimp only
  rw [Wz_ic]
  rcases h3 with ⟨b1, b2⟩ | ⟨b1, b2, b3, b4, b5, b6⟩
  · exact .inl ⟨b1, by show (if d 0 1 < 256 then (1 : Int) else 0) = 0; rw [if_neg b2]⟩
  · exact .inr ⟨b1, by show (if d 0 1 < 256 then (1 : Int) else 0) = 1; rw [if_pos b2], b2, d, y, 0, 0, 0, 0, ⟨fun _ _ _ _ _ => rfl, Int.le_refl _⟩, ⟨⟨fun _ _ => rfl, id⟩, pcY.no rfl (.inl rfl) fun q => absurd rfl q⟩, b3, hL.cg (dPc_no (by omega) (by omega) (by omega)) b6, ⟨b4, b5⟩, b6.rb⟩
/-- what a piece is -/
def pcI (O : Int → Int → Int → Int → Int) (d z : Int → Int → Int) (k : Int) : Prop := (0 ≤ z 0 k ∧ 0 ≤ z 1 k ∧ z 0 k + z 1 k ≤ 4096) ∧ ((z 2 k = -1 ∧ d 5 k = 0 ∧ d 6 k = z 1 k) ∨ ((0 ≤ z 3 k ∧ z 3 k < 6) ∧ ∃ i, (0 ≤ i ∧ i < 300 ∧ i < O (z 3 k) 2 2 0) ∧ z 2 k = 300 * z 3 k + i ∧ tkP (O (z 3 k)) i ∧ z 0 k = O (z 3 k) 5 i 1 ∧ z 1 k = kW (O (z 3 k) 5 i 2) (O (z 3 k) 5 i 4) ∧ d 5 k = srT (O (z 3 k) 5 i 2) ∧ (O (z 3 k) 5 i 2 = 43 → d 6 k = O (z 3 k) 5 i 4)))
theorem pcI.eq (h : pcI O d z k) (hz : ∀ f, 0 ≤ f → f ≤ 3 → z' f k = z f k) (h5 : d' 5 k = d 5 k) (h6 : d' 6 k = d 6 k) : pcI O d' z' k := by
  unfold pcI at *
  rw [hz 0 (by decide) (by decide), hz 1 (by decide) (by decide), hz 2 (by decide) (by decide), hz 3 (by decide) (by decide), h5, h6]
  exact h
/-- pieces of a part so far: they reach a -/
def pCi (d z : Int → Int → Int) (p a : Int) : Prop := (d 3 p = d 4 p ∧ a = 0) ∨ (d 3 p < d 4 p ∧ z 0 (d 3 p) = 0 ∧ (∀ k, d 3 p ≤ k → k < d 4 p → 0 < z 1 k) ∧ (∀ k, d 3 p ≤ k → k + 1 < d 4 p → z 0 (k + 1) = z 0 k + z 1 k) ∧ z 0 (d 4 p - 1) + z 1 (d 4 p - 1) = a)
/-- all pieces of a part -/
def pCt (d z : Int → Int → Int) (p a : Int) : Prop := d 3 p < d 4 p ∧ z 0 (d 3 p) = 0 ∧ (∀ k, d 3 p ≤ k → k + 1 < d 4 p → 0 < z 1 k ∧ z 0 (k + 1) = z 0 k + z 1 k) ∧ z 0 (d 4 p - 1) + z 1 (d 4 p - 1) = a
/-- what was laid out stays; only the last part gets more pieces -/
def sK (d z d' z' : Int → Int → Int) : Prop := (d' 0 0 = d 0 0 ∧ d 0 1 ≤ d' 0 1) ∧ (∀ f k, 0 ≤ f → f ≤ 3 → k < d 0 1 → z' f k = z f k) ∧ (∀ f k, f = 5 ∨ f = 6 ∨ f = 11 → k < d 0 1 → d' f k = d f k) ∧ (∀ f p, 1 ≤ f → f ≤ 3 → d' f p = d f p) ∧ ∀ p, ¬ p = d 0 0 - 1 → d' 4 p = d 4 p
theorem sK.rfl : sK d z d z := ⟨⟨Eq.refl _, Int.le_refl _⟩, fun _ _ _ _ _ => Eq.refl _, fun _ _ _ _ => Eq.refl _, fun _ _ _ _ => Eq.refl _, fun _ _ => Eq.refl _⟩
theorem sK.trans (h : sK d z d' z') (g : sK d' z' d2 z2) : sK d z d2 z2 := by
  obtain ⟨⟨h1, h2⟩, h3, h4, h5, h6⟩ := h
  obtain ⟨⟨g1, g2⟩, g3, g4, g5, g6⟩ := g
  exact ⟨⟨g1.trans h1, by omega⟩, fun f k f0 f1 k1 => (g3 f k f0 f1 (by omega)).trans (h3 f k f0 f1 k1), fun f k hf k1 => (g4 f k hf (by omega)).trans (h4 f k hf k1), fun f p f0 f1 => (g5 f p f0 f1).trans (h5 f p f0 f1), fun p hp => (g6 p (by omega)).trans (h6 p hp)⟩
/-- a piece more -/
theorem sK.pc (hd : dOnly d d') : sK d z (dPc d' Si m w0 l0 c0 z0) (zP z (d 0 1) a n rr x) := by
  have e00 : d' 0 0 = d 0 0 := hd.1 _ _ (by omega) (by omega) (by omega)
  have e01 : d' 0 1 = d 0 1 := hd.1 _ _ (by omega) (by omega) (by omega)
  refine ⟨⟨by rw [dPc_no (by omega) (by omega) (by omega)]; exact e00, by rw [dPc_0]; omega⟩, fun f k f0 f1 k1 => zP_no (by omega), fun f k hf k1 => ?_, fun f p f0 f1 => ?_, fun p hp => ?_⟩
  · rw [dPc_no (by omega) (by omega) (by omega)]; exact hd.1 _ _ (by omega) (by omega) (by omega)
  · rw [dPc_no (by omega) (by omega) (by omega)]; exact hd.1 _ _ (by omega) (by omega) (by omega)
  · rw [dPc_no (by omega) (by omega) (by omega)]; exact hd.1 _ _ (by omega) (by omega) (by omega)
theorem pCi.pc (h : pCi d z (d 0 0 - 1) a) (v : vLy d) (h0 : 0 < d 0 0) (hd : dOnly d d') (n0 : 0 < n) : pCi (dPc d' Si m w0 l0 c0 z0) (zP z (d 0 1) a n rr x) (d 0 0 - 1) (a + n) := by
  have e00 : d' 0 0 = d 0 0 := hd.1 _ _ (by omega) (by omega) (by omega)
  have e01 : d' 0 1 = d 0 1 := hd.1 _ _ (by omega) (by omega) (by omega)
  have e4 : d 4 (d 0 0 - 1) = d 0 1 := v.ptN h0
  have E3 : dPc d' Si m w0 l0 c0 z0 3 (d 0 0 - 1) = d 3 (d 0 0 - 1) := by rw [dPc_no (by omega) (by omega) (by omega)]; exact hd.1 _ _ (by omega) (by omega) (by omega)
  have E4 : dPc d' Si m w0 l0 c0 z0 4 (d 0 0 - 1) = d 0 1 + 1 := by rw [← e00, dPc_4, e01]
  obtain ⟨z1, z2, -, -⟩ := zP_at (z := z) (p := d 0 1) (a := a) (n := n) (rr := rr) (x := x)
  have zo : ∀ f k, ¬ k = d 0 1 → zP z (d 0 1) a n rr x f k = z f k := fun f k hk => zP_no (by omega)
  unfold pCi
  rw [E3, E4]
  rw [show d 0 1 + 1 - 1 = d 0 1 by omega, z1, z2]
  refine .inr ?_
  rcases h with ⟨h1, h2⟩ | ⟨h1, h2, h3, h4, h5⟩
  · rw [e4] at h1
    refine ⟨by omega, by rw [h1, z1]; exact h2, fun k k0 k1 => ?_, fun k k0 k1 => ?_, rfl⟩
    · rw [show k = d 0 1 by omega, z2]; exact n0
    · omega
  · rw [e4] at h1 h3 h4 h5
    refine ⟨by omega, by rw [zo _ _ (by omega)]; exact h2, fun k k0 k1 => ?_, fun k k0 k1 => ?_, rfl⟩
    · by_cases c : k = d 0 1
      · rw [c, z2]; exact n0
      · rw [zo _ _ c]; exact h3 k k0 (by omega)
    · rw [zo 0 k (by omega), zo 1 k (by omega)]
      by_cases c : k + 1 = d 0 1
      · rw [c, z1]
        have : k = d 0 1 - 1 := by omega
        rw [this]; omega
      · rw [zo _ _ c]; exact h4 k k0 (by omega)
/-- the last one, which may be empty if it is alone -/
theorem pCi.last (h : pCi d z (d 0 0 - 1) a) (v : vLy d) (h0 : 0 < d 0 0) (hd : dOnly d d') : pCt (dPc d' Si m w0 l0 c0 z0) (zP z (d 0 1) a n rr x) (d 0 0 - 1) (a + n) := by
  have e00 : d' 0 0 = d 0 0 := hd.1 _ _ (by omega) (by omega) (by omega)
  have e01 : d' 0 1 = d 0 1 := hd.1 _ _ (by omega) (by omega) (by omega)
  have e4 : d 4 (d 0 0 - 1) = d 0 1 := v.ptN h0
  have E3 : dPc d' Si m w0 l0 c0 z0 3 (d 0 0 - 1) = d 3 (d 0 0 - 1) := by rw [dPc_no (by omega) (by omega) (by omega)]; exact hd.1 _ _ (by omega) (by omega) (by omega)
  have E4 : dPc d' Si m w0 l0 c0 z0 4 (d 0 0 - 1) = d 0 1 + 1 := by rw [← e00, dPc_4, e01]
  obtain ⟨z1, z2, -, -⟩ := zP_at (z := z) (p := d 0 1) (a := a) (n := n) (rr := rr) (x := x)
  have zo : ∀ f k, ¬ k = d 0 1 → zP z (d 0 1) a n rr x f k = z f k := fun f k hk => zP_no (by omega)
  unfold pCt
  rw [E3, E4]
  rw [show d 0 1 + 1 - 1 = d 0 1 by omega, z1, z2]
  rcases h with ⟨h1, h2⟩ | ⟨h1, h2, h3, h4, h5⟩
  · rw [e4] at h1
    exact ⟨by omega, by rw [h1, z1]; exact h2, fun k k0 k1 => by omega, rfl⟩
  · rw [e4] at h1 h3 h4 h5
    refine ⟨by omega, by rw [zo _ _ (by omega)]; exact h2, fun k k0 k1 => ?_, rfl⟩
    rw [zo 0 k (by omega), zo 1 k (by omega)]
    refine ⟨h3 k k0 (by omega), ?_⟩
    by_cases c : k + 1 = d 0 1
    · rw [c, z1]
      have : k = d 0 1 - 1 := by omega
      rw [this]; omega
    · rw [zo _ _ c]; exact h4 k k0 (by omega)
theorem pCi.all (h : pCi d z p a) (hn : d 3 p < d 4 p) : pCt d z p a := by
  rcases h with ⟨h1, -⟩ | ⟨h1, h2, h3, h4, h5⟩
  · omega
  · exact ⟨h1, h2, fun k k0 k1 => ⟨h3 k k0 (by omega), h4 k k0 k1⟩, h5⟩
/-- other parts stay whole -/
theorem pCt.sk (h : pCt d z p a) (g : sK d z d' z') (v : vLy d) (p0 : 0 ≤ p) (p1 : p < d 0 0 - 1) : pCt d' z' p a := by
  obtain ⟨⟨g1, g2⟩, g3, g4, g5, g6⟩ := g
  obtain ⟨-, -, ⟨b1, b2, b3⟩, -⟩ := v.2.2.2.2.1 p p0 (by omega)
  obtain ⟨h1, h2, h3, h4⟩ := h
  unfold pCt
  rw [g5 3 p (by omega) (by omega), g6 p (by omega)]
  refine ⟨h1, by rw [g3 _ _ (by omega) (by omega) (by omega)]; exact h2, fun k k0 k1 => ?_, by rw [g3 _ _ (by omega) (by omega) (by omega), g3 _ _ (by omega) (by omega) (by omega)]; exact h4⟩
  rw [g3 _ _ (by omega) (by omega) (by omega), g3 _ _ (by omega) (by omega) (by omega), g3 _ _ (by omega) (by omega) (by omega)]
  exact h3 k k0 k1
end jTxp
