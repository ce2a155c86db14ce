/-! the linker: what was laid out stays told while it settles *-/
set_option maxRecDepth 100000
section jLse
variable {s t u w s0 t0 : jS} {a b k m n p v l x c f i H B C S K X : Int} {O : Int → Int → Int → Int → Int} {d d' e z y : Int → Int → Int} {G : Int → Int}
theorem tzW.bw (h : tzW (H + 93) t u) : tBW H t u := ⟨h.1, fun c a k q1 q2 => h.2 c a k (by omega) (by omega)⟩
theorem pcI.sm (h : pcI O d z k) (g : dSm d d') : pcI O d' z k := h.eq (fun _ _ _ => rfl) (g 5 _ (by decide)) (g 6 _ (by decide))
theorem pCt.sm (h : pCt d z p a) (g : dSm d d') : pCt d' z p a := by
  unfold pCt at *
  rw [g 3 _ (by decide), g 4 _ (by decide)]; exact h
theorem lpR.sm (h : lpR H S O t d z e G) (g : dSm d d') : lpR H S O t d' z e G := by
  have e0 := g 0 0 (by decide)
  have e1 := g 0 1 (by decide)
  refine ⟨fun v j v0 v1 hv j0 j1 => ?_, fun i i0 i1 hi => ?_, fun i i0 i1 => ?_⟩
  · obtain ⟨⟨q1, q2, q3⟩, q4⟩ := h.1 v j v0 v1 hv j0 j1
    exact ⟨⟨q1, by rw [g 1 _ (by decide)]; exact q2, q3.sm g⟩, by rw [e0]; exact q4⟩
  · obtain ⟨q1, q2, q3⟩ := h.2.1 i i0 i1 hi
    exact ⟨by rw [e0]; exact q1, by rw [g 1 _ (by decide)]; exact q2, q3.sm g⟩
  · rw [e1] at i1; exact (h.2.2 i i0 i1).sm g
/-- settling keeps all but sizes -/
theorem syT.sm (g : dSm d d') : syT S O d' z X k a ↔ syT S O d z X k a := by
  unfold syT pcA
  rw [g 3 _ (by decide), g 4 _ (by decide), g 5 _ (by decide)]
theorem lT_sm (g : dSm d d') : lT S O e d' z G K k a ↔ lT S O e d z G K k a := by
  unfold lT
  rw [syT.sm g, syT.sm g, g 3 _ (by decide)]
theorem pcU.sm (h : pcU S O e d z G k) (g : dSm d d') : pcU S O e d' z G k := ⟨fun h5 => by
  rw [g 5 _ (by decide)] at h5
  rw [g 11 _ (by decide), g 1 _ (by decide)]; exact h.1 h5, fun hm => by
  have := h.2 (g.mv.mp hm)
  rw [g 8 _ (by decide), g 9 _ (by decide), g 12 _ (by decide), g 13 _ (by decide), g 5 _ (by decide), g 10 _ (by decide), lT_sm g]; exact this⟩
theorem LYD.settle (h : LYD C H S O s0 t0 s t e d z y) (g : LYo s t u w (C + 4275 + 1) (H + 93) d d') (hT : noT d') (hz : szD d') : LYD C H S O s0 t0 u w e d' z y := by
  obtain ⟨h1, ⟨h2, h3⟩, ⟨G, h4, h5, hU⟩, h6, h7, h8, -, -, h9⟩ := h
  obtain ⟨g1, g2, g3, g4⟩ := g
  have b1 := g3.bw
  have b2 := g4.bw
  have Fc : ∀ a k, C + 4275 + 22 ≤ a → a ≤ C + 4275 + 32 → jf u 1000 a k = jf s 1000 a k := fun a k a0 a1 => g3.2 _ _ _ (by omega) (by omega) (by omega) (by omega) (by omega)
  have Ft : ∀ a k, H + 195 ≤ a → a ≤ H + 204 → jf w 1000 a k = jf t 1000 a k := fun a k a0 a1 => g4.2 _ _ _ (by omega) (by omega)
  refine ⟨g1, ⟨(h2.cg (fun a k a0 a1 => Fc _ _ (by omega) (by omega)) (g3.2 _ _ _ (by omega) (by omega) (by omega) (by omega) (by omega))).dd (g2 _ _ (by decide)) (g2 _ _ (by decide)) (fun p => g2 _ _ (by decide)) fun p => g2 _ _ (by decide), (h3.cg fun a k a0 a1 => Ft _ _ (by omega) (by omega)).dd (g2 _ _ (by decide)) (g2 _ _ (by decide)) (fun p => g2 _ _ (by decide)) fun p => g2 _ _ (by decide)⟩, ⟨G, (h4.sm g2).fr fun k => Ft _ _ (by omega) (by omega), fun g g0 g1 g2 => ?_, fun k k0 k1 => (hU k k0 (by rw [g2 0 _ (by decide)] at k1; exact k1)).sm g2⟩, h6.bw b1 b2, (h7.trans b1).mono (by omega) (by omega), h8.trans b2, hT, hz, h9.cg (by rw [g3.1.2.2.1]; exact Int.le_refl _) (fun _ _ => by rw [g3.1.1]) fun c a k q => g3.2 _ _ _ (by omega) (by omega) (by omega) (by omega) (by omega)⟩
  rw [Fc _ _ (by omega) (by omega), Ft _ _ (by omega) (by omega)]
  exact h5 g g0 g1 g2
theorem x_settleJ (h : LYD C H S O s0 t0 s t e d z y) : jE2 (m_X36_settle s (C + 4275 + 1)) (m_X41_settle t (H + 93)) fun r q => r.2 = q.2 ∧ ∃ d', LYD C H S O s0 t0 r.1 q.1 e d' z y ∧ dSm d d' :=
  jE2_mono (x_settle h.1) fun r q ⟨h1, d', h2, h3, h4⟩ => ⟨h1, d', h.settle h2 h3 (h4 h.2.2.2.2.2.2.2.1), h2.2.1⟩
end jLse
