/-! the linker: fills too short, both sides *-/
set_option maxRecDepth 100000
section jLlj
variable {s t u w s0 t0 : jS} {a b k m n p v l x c f i H B C S K X : Int} {O : Int → Int → Int → Int → Int} {d d' e z y : Int → Int → Int}
theorem x_lacksJ (h : LYD C H S O s0 t0 s t e d z y) : jE2 (m_X36_lacks s (C + 4275 + 1)) (m_X41_lacks t (H + 93)) fun r q => r.2 = q.2 ∧ lkR d r.2 ∧ LYD C H S O s0 t0 r.1 q.1 e d z y ∧ (cLd r.1 (C + 4275 + 1) d ∧ jf r.1 40 (C + 4275 + 1) 19 = 1) ∧ tLq q.1 (H + 93) d := by
  obtain ⟨v, hc, ht⟩ := id h.1
  obtain ⟨u, r, e1, r1, w1, c1, l1, n1⟩ := c_lacks hc v
  obtain ⟨w, q, e2, r2, w2, t2, q2⟩ := t_lacks ht v
  rw [e1, e2]
  have rq := r1.one r2
  subst rq
  have zz : tzW (H + 93) t w := ⟨w2.1, fun c a k a1 a2 => w2.2 c a k (by omega) (by omega)⟩
  exact jE2_some.mpr ⟨rfl, r1, h.settle ⟨⟨v, ⟨c1, .inr ⟨n1, l1⟩⟩, t2⟩, fun _ _ _ => rfl, w1.toZ, zz⟩ h.2.2.2.2.2.2.1 h.2.2.2.2.2.2.2.1, ⟨l1, n1⟩, q2⟩
end jLlj
