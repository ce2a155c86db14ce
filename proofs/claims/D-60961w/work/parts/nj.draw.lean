/-! the linker: segments and marks of the image are drawn, both sides *-/
set_option maxRecDepth 100000
section jLdr
variable {s t u w s0 t0 s' t' : jS} {a b k m n o p q v l x y c f g j A H C S X OO : Int} {O : Int → Int → Int → Int → Int} {d e z : Int → Int → Int} {i i' : Int → Int → Int → Int} {G B : Int → Int} {QQ : jS × Bool × Int → jS × Int → Prop}
/-- both images hold the same -/
def imJ (C H : Int) (s t : jS) (i : Int → Int → Int → Int) : Prop := cIm s (C + 3993) i ∧ tIm t (H + 118) 0 i ∧ vIm i ∧ cIs s (C + 3993)
/-- the image's file, as both have it -/
def imF (C H : Int) (s t : jS) : Prop := ∃ g n, iB s (C + 3992 + 19) g n ∧ jf t 41 H 3 = n ∧ ∀ k, 0 ≤ k → k < n → jf t 1000 (H + 3) k = g k
/-- what stays true of the images between calls -/
def imI (C H : Int) (s t : jS) : Prop := jTt s 42 (C + 3992) ∧ cIz s (C + 3993) ∧ cIs s (C + 3993) ∧ imF C H s t
/-- what drawing stands on -/
def drS (C H S : Int) (O : Int → Int → Int → Int → Int) (s t : jS) (e d z : Int → Int → Int) (G : Int → Int) : Prop := LZD C H S O s t e d z G ∧ (∀ a, C ≤ a → a < C + 15464 → ¬ (70 ≤ jK s a ∧ jK s a ≤ 77)) ∧ outK C s ∧ (∀ o p, 0 ≤ o → o < 3 → 0 ≤ p → p < 4096 → (0 ≤ tBy t H o p ∧ tBy t H o p < 256) ∧ cBy s C o p = sb (tBy t H o p)) ∧ imI C H s t
theorem outI.all (h : outI C H O s t d z 1800) (hI : ∀ k, 0 ≤ k → k < d 0 1 → pcI O d z k) : ∀ o p, 0 ≤ o → o < 3 → 0 ≤ p → p < 4096 → (0 ≤ tBy t H o p ∧ tBy t H o p < 256) ∧ cBy s C o p = sb (tBy t H o p) := fun o p o0 o1 p0 p1 => by
  obtain ⟨v, v1, v2, v3⟩ := h.1 o p o0 o1 p0 p1 fun ⟨_, k, ⟨k0, k1⟩, _, kn, _⟩ => by
    rcases (hI k k0 k1).2 with ⟨q, -⟩ | ⟨z3, i, ⟨i0, i1, -⟩, q5, -⟩
    · omega
    · omega
  rw [v3]; exact ⟨v1, v2⟩
theorem imF.kp (h : imF C H s t) (F : ∀ c a k, a = C + 3992 + 19 ∨ a = C + 3992 + 20 → jf u c a k = jf s c a k) (T : jTt u 45 (C + 3992 + 19)) (F3 : jf w 41 H 3 = jf t 41 H 3) (F' : ∀ k, jf w 1000 (H + 3) k = jf t 1000 (H + 3) k) : imF C H u w := by
  obtain ⟨g, n, ⟨⟨f1, f2, f3, f4⟩, f5, f6⟩, c5, c1⟩ := h
  exact ⟨g, n, ⟨⟨by rw [F _ _ _ (.inl rfl)]; exact f1, f2, f3, fun k k0 k3 => by rw [F _ _ _ (by omega)]; exact f4 k k0 k3⟩, f5, T⟩, by rw [F3]; exact c5, fun k k0 k3 => by rw [F']; exact c1 k k0 k3⟩
theorem drS.dw (h : drS C H S O s t e d z G) (g : cDW C s u) (g' : tDW (H + 118) t w) (hc : cIz u (C + 3993)) (hs : cIs u (C + 3993)) : drS C H S O u w e d z G := by
  obtain ⟨h1, h2, h3, h4, i1, i2, i3, i4⟩ := h
  refine ⟨h1.zw h2 g.zw g'.zw, fun a a0 a1 => by rw [g.K]; exact h2 a a0 a1, h3.cg g.1.1, fun o p o0 o1 p0 p1 => ?_, i1.ext g.2, hc, hs, i4.kp (fun c a k q => g.F (by omega) k) (T42 (i1.ext g.2)).2.2.2.1 (g'.2 _ _ _ (by omega)) fun k => g'.2 _ _ _ (by omega)⟩
  have e1 : tBy w H o p = tBy t H o p := g'.2 _ _ _ (by omega)
  have e2 : cBy u C o p = cBy s C o p := g.F (by omega) _
  rw [e1, e2]; exact h4 o p o0 o1 p0 p1
/-- one segment -/
theorem x_segI (h : drS C H S O s t e d z G) (hj : imJ C H s t i) (x0 : 0 ≤ x) (x1 : x < 3) (hi : i 1 x 0 = 0) : ∃ s' t' i', m_X35_segment s (C + 4275) x m = some (s', 0) ∧ m_X37_imageSegment t H x m = some (t', 0) ∧ (cDW C s s' ∧ tDW (H + 118) t t') ∧ drS C H S O s' t' e d z G ∧ imJ C H s' t' i' ∧ ∀ y, ¬ y = x → i' 1 y 0 = i 1 y 0 := by
  obtain ⟨hI, hT, vi, hs⟩ := hj
  obtain ⟨h1, h2, h3, h4, -⟩ := id h
  have lo := ouB_lo h1.1 x0 (show x < 4 by omega)
  have le := ouE_lo h1.1 x0 (show x < 4 by omega)
  have nb := h1.2.2.2.2.2.2.2.2
  have n1 : ouE d x - ouB d x ≤ 4096 := by
    by_cases c : ouE d x - ouB d x ≤ 4096
    · exact c
    · exact absurd (.inl ⟨_, x0, x1, by omega⟩) nb
  obtain ⟨n, hn⟩ : ∃ n, n = ouE d x - ouB d x := ⟨_, rfl⟩
  obtain ⟨t1, t2⟩ := h1.2.2.1
  obtain ⟨b2, b3⟩ := t2.2.2 x x0 (show x < 4 by omega)
  obtain ⟨s', e1, k1, k2, k3, k4⟩ := c_segI (m := m) (n := n) (B := fun k => tBy t H x k) h1 h3 hI vi x0 x1 (by omega) (by omega) (by omega) (fun k k0 k1 => h4 x k x0 x1 k0 (by omega)) hi
  obtain ⟨t', e2, l1, l3, l4⟩ := t_segI (m := m) (n := n) hT vi x0 x1 b2 (by rw [b3]; omega) (by omega) (by omega) (by omega) hi
  have hs' := k2.is hs
  by_cases c : sgB x (ouB d x) m
  · have hI' := k3 c
    exact ⟨s', t', _, e1, e2, ⟨k1, l1⟩, h.dw k1 l1 hI'.2.2.2.2 hs', ⟨hI', l3 c, vi.sg c (by omega) (by omega) fun k k0 k1 => (h4 x k x0 x1 k0 (by omega)).1, hs'⟩, fun y hy => iSg_o (.inl hy)⟩
  · have hI' := k4 c
    exact ⟨s', t', i, e1, e2, ⟨k1, l1⟩, h.dw k1 l1 hI'.2.2.2.2 hs', ⟨hI', l4 c, vi, hs'⟩, fun y hy => rfl⟩
/-- a place of a unit's text lies in or behind the output's begin -/
theorem x_startP (h : LZD C H S O s t e d z G) (x0 : 0 ≤ x) (x1 : x < 6) (hS : sIn S x) (i0 : 0 ≤ a) (i1 : a ≤ 4096) : ∃ P, m_X35_placeOf s (C + 4275) x 0 a = some (s, P) ∧ m_X37_address_2 t H x 0 a = some P ∧ ouB d 0 ≤ P ∧ P ≤ 7110000 := by
  obtain ⟨k, ⟨k0, k1⟩, a1, p1, p2⟩ := x_place h x0 x1 hS (j := 0) (by decide) (by decide) i0 i1
  have v := h.1
  have hI := h.2.2.2.2.1.1.2.2 k k0 k1
  obtain ⟨⟨q1, q2, q3⟩, q4⟩ := h.2.2.2.2.1.1.1 x 0 x0 x1 hS (by decide) (by decide)
  have nx := nIn_lo (S := S) x.toNat
  have e11 := v.pt (p := 4 * nIn S x.toNat + 0) (by omega) q4 a1.1.1 a1.1.2
  have eo : d 1 (d 11 k) = 0 := by rw [e11]; exact q2
  obtain ⟨s0, s1, -⟩ := h.spot k0 k1 (by rw [eo]; decide)
  rw [eo] at s0
  have pb := plV_lo v hI k0 k1 i0 i1
  refine ⟨_, p1, p2, ?_, pb.2⟩
  have a2 := a1.2.1
  unfold plV
  split
  · omega
  split <;> omega
/-- a mark -/
theorem imJ.mark (hT : tIm t X 0 i) (k0 : 0 ≤ k) (k1 : k < 2048) : tIm (jp t 1002 (X + 6) k 1) X 0 (iUp i 3 k 1) := by
  obtain ⟨h1, h2, h3, h4⟩ := hT
  refine ⟨fun y y0 y1 => ((h1 y y0 y1).kp fun c a k a0 a1 => jf_neg (by omega)).of fun a y z ha => iUp_ne (by omega), by rw [iUp_ne (by omega), jf_neg (by omega)]; exact h2, by rw [iUp_ne (by omega), jf_neg (by omega)]; exact h3, fun j j0 j1 => ?_⟩
  by_cases c : j = k
  · rw [c, show 2048 * 0 + k = k by omega, iUp_at, jf_pos ⟨rfl, rfl, rfl⟩]
  · rw [iUp_ne (by omega), jf_neg (by omega)]; exact h4 j j0 j1
theorem vIm.mark (vi : vIm i) : vIm (iUp i 3 k 1) := by
  obtain ⟨h1, h2, h3, h4⟩ := vi
  refine ⟨fun x x0 x1 => ?_, by rw [iUp_ne (by omega)]; exact h2, by rw [iUp_ne (by omega)]; exact h3, fun j j0 j1 => ?_⟩
  · have e : ∀ a y z, a < 2 → iUp i 3 k 1 a y z = i a y z := fun a y z ha => iUp_ne (by omega)
    simp only [e 0 _ _ (show (0 : Int) < 2 by decide), e 1 _ _ (show (1 : Int) < 2 by decide)]; exact h1 x x0 x1
  · by_cases c : j = k
    · rw [c, iUp_at]; exact .inr rfl
    · rw [iUp_ne (by omega)]; exact h4 j j0 j1
end jLdr
