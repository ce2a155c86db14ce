/-! an image is written on both sides: the files agree -/
section jBwrite
variable {s t : jS} {O X n : Int} {g : Int → Int} {i : Int → Int → Int → Int}
/-- the two files of an image hold the same -/
def iFF (s t : jS) (O X : Int) : Prop := ∃ g n, iB s (O + 19) g n ∧ sC t X g n
theorem i_write2 (T : jTt s 42 O) (hI : cIm s (O + 1) i) (hS : cIs s (O + 1)) (vi : vIm i) (h : tIm t X 0 i) (F : iFF s t O X) : jE2 (m_X22_write s O) (m_X42_write t X) fun r q => r.2 = q.2 ∧ fWt s r.1 O ∧ sWt t q.1 X ∧ cIm r.1 (O + 1) i ∧ iFF r.1 q.1 O X := by
  obtain ⟨r, er, a1, a2, hr⟩ := i_write T hI hS vi
  obtain ⟨q, eq, b1, hq⟩ := s_write h vi
  refine ⟨r, er, q, eq, ?_⟩
  obtain ⟨g, n, ⟨⟨f1, f2, f3, f4⟩, f5, f6⟩, ⟨c1, c2, c3, c4, c5⟩⟩ := F
  have keep : (∀ c a k, a = O + 19 ∨ a = O + 20 → jf r.1 c a k = jf s c a k) → (∀ c a k, ¬ (c = 1000 ∧ a = X + 11) → jf q.1 c a k = jf t c a k) → iFF r.1 q.1 O X := fun k1 k2 =>
    ⟨g, n, ⟨⟨by rw [k1 _ _ _ (.inl rfl)]; exact f1, f2, f3, fun k k0 k3 => by rw [k1 _ _ _ (by omega)]; exact f4 k k0 k3⟩, f5, f6.ext a1.1.2⟩, fun k k0 k3 => by rw [k2 _ _ _ (by omega)]; exact c1 k k0 k3, c2, c3, c4, by rw [k2 _ _ _ (by omega)]; exact c5⟩
  rcases hr with ⟨x, x1, x2, x3, x4⟩ | ⟨x1, x2, x3, x4⟩ | ⟨x1, x2, x3, g1, x4, x5⟩ <;> rcases hq with ⟨y, y1, y2, y3, y4⟩ | ⟨y1, y2, y3, y4⟩ | ⟨y1, y2, y3, y4, g2, y5, y6⟩
  · exact ⟨by rw [x3, y3, wcI_one x1 y1], a1, b1, a2, keep x4 fun c a k _ => by rw [y4]⟩
  · exact absurd (wcI_one x1 y1) x2
  · exact absurd (wcI_one x1 y1) x2
  · exact absurd (wcI_one y1 x1) y2
  · exact ⟨by rw [x3, y3], a1, b1, a2, keep x4 y4⟩
  · omega
  · exact absurd (wcI_one y1 x1) y2
  · omega
  · refine ⟨by rw [x3, y3], a1, b1, a2, g1, ttI i, x4, fun k k0 k1 => ?_, x4.by, x4.n0, y2, y4⟩
    rw [pIm_one vi x5 y6 k0 k1]
    exact y5 k
end jBwrite
