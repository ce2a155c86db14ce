/-! the facade: what a link keeps of all the rest *-/
set_option maxRecDepth 100000
section jFkp
variable {s t u w : jS} {a b k n o p q v l x y c f g j H C S P Q hi hj W : Int}
/-- words lie below -/
theorem pWl.up (h : pWl s W hi) (h1 : hi ≤ hj) (h2 : hj ≤ jn s) : pWl s W hj := by
  obtain ⟨w0, w1, w2, w3, w4⟩ := h
  refine ⟨w0, by omega, h2, w3, fun k hk => ?_⟩
  obtain ⟨a1, a2, a3, a4, a5⟩ := w4 k hk
  refine ⟨by omega, a2, by omega, fun z => by have := a4 z; omega, fun e he hc => ?_⟩
  have := a5 e he hc
  omega
theorem wl_ng (h : pWd s (C + 1) ∧ pWl s (C + 1) (C + 258)) (hK : ∀ a, a < C + 15464 → ¬ (70 ≤ jK s a ∧ jK s a ≤ 77)) (g : cNG C s u P Q) : pWd u (C + 1) ∧ pWl u (C + 1) (C + 258) := by
  obtain ⟨w1, w2⟩ := h
  have k1 : jK s (C + 25) = 1000 := by have := w2.2.2.2.1.1; rw [show C + 1 + 24 = C + 25 by omega] at this; exact this
  have k2 : jK s (C + 26) = 1000 := by have := w2.2.2.2.1.2; rw [show C + 1 + 25 = C + 26 by omega] at this; exact this
  exact w1.gl w2 g.1 fun a q => by
    unfold lnA lkA fAt at q
    rcases q with (⟨v, v0, v1, z⟩ | z | z | z) | z
    · exact .inl (by omega)
    · exact .inl (by omega)
    · rcases z with z | z
      · exact .inr ⟨by rw [z]; exact k1, by omega⟩
      · exact .inr ⟨by rw [z]; exact k2, by omega⟩
    · by_cases c : a < C + 15464
      · exact absurd z (hK a c)
      · exact .inl (by omega)
    · exact .inl (by omega)
/-- what a link asks of the words, from the facade's -/
theorem wrS.of (h : pWd s (C + 1) ∧ pWl s (C + 1) (C + 258)) (hn : C + 15464 ≤ jn s) (hR : pRows t (H + 5)) (hK : ∀ a, a < C + 15464 → ¬ (70 ≤ jK s a ∧ jK s a ≤ 77)) : wrS C H s t := ⟨⟨h.1, h.2.up (by omega) (by omega)⟩, hR, hK⟩
theorem pRows.ng (h : pRows t (H + 5)) (g : tNG H t u) : pRows u (H + 5) := fun i i0 i1 => by rw [g.2 _ _ _ (by omega) (by omega)]; exact h i i0 i1
theorem cBs.ng (h : cBs s (C + 4276)) (h1 : C + 15464 ≤ jn s) (g : cNG C s u P Q) : cBs u (C + 4276) := by
  obtain ⟨⟨b0, b1, b2, b3⟩, hp, h0⟩ := h
  have hn := g.1.n
  refine ⟨⟨b0, by omega, by rw [g.1.K (by omega)]; exact b2, by rw [g.1.N (by omega)]; exact b3⟩, ?_, by omega⟩
  have := g.2 (by rw [show C + 4275 + 1 = C + 4276 by omega]; exact hp)
  rw [show C + 4275 + 1 = C + 4276 by omega] at this; exact this
theorem cKdl.ng (h : cKdl C s) (h0 : 0 ≤ C) (hn : C + 15464 ≤ jn s) (g : cNG C s u P Q) : cKdl C u := ⟨h.1.keep g.1 fun a ha => by
  rcases ha with q | q
  · exact lkA_in h0 h.2 q
  · exact (h.2 a (by omega) (by omega)).1, fun a a0 a1 => by rw [g.1.K (by omega)]; exact h.2 a a0 a1⟩
/-- the files, as linking asks for them -/
theorem lkSt.of (hF : Fls s C t H) (h0 : 0 ≤ C ∧ C + 15464 ≤ jn s) (hK : ∀ a, C ≤ a → a < C + 15464 → jK s a < 3000 ∧ ¬ (70 ≤ jK s a ∧ jK s a ≤ 77)) (hL : oLn s C) (hP : pCon s) (hT : jTt s 17 C) : ∃ G N, lkSt C H s G N t := by
  have h : ∀ x : Int, ∃ p : (Int → Int) × Int, 0 ≤ x → x < 6 → fB s (fAt C x + 1229) p.1 p.2 ∧ jf t 1000 (H + 2) x = p.2 ∧ fRow t (H + 1) (8192 * x) p.1 p.2 := fun x => by
    by_cases c : 0 ≤ x ∧ x < 6
    · obtain ⟨g, n, h1, h2, h3⟩ := hF.1 x c.1 c.2
      exact ⟨(g, n), fun _ _ => ⟨h1, h2, h3⟩⟩
    · exact ⟨(fun _ => 0, 0), fun a b => absurd ⟨a, b⟩ c⟩
  exact ⟨fun x => (Classical.choose (h x)).1, fun x => (Classical.choose (h x)).2, h0, hK, fun x x0 x1 => Classical.choose_spec (h x) x0 x1, hL, hP, hT⟩
theorem imF.of (h : vFl s C t H) : imF C H s t := by
  obtain ⟨g, n, h1, h2, h3⟩ := h
  exact ⟨g, n, h1, h2, fun k k0 k1 => by have := h3 k k0 k1; rw [Int.zero_add] at this; exact this⟩
theorem imF.fl (h : imF C H s t) : vFl s C t H := by
  obtain ⟨g, n, h1, h2, h3⟩ := h
  exact ⟨g, n, h1, h2, fun k k0 k1 => by rw [Int.zero_add]; exact h3 k k0 k1⟩
end jFkp
