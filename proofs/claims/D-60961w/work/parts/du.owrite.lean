/-! an object's file is written on both sides: the files agree -/
section jOwrite
variable {s t : jS} {O X n : Int} {g d : Int → Int} {o : Int → Int → Int → Int}
/-- the two files of an object hold the same -/
def oFF (s t : jS) (O X : Int) : Prop := ∃ g n, fB s (O + 1229) g n ∧ tCf t X g n
theorem o_write2 (h : cMk s O o d) (hC : pCon s) (hN1 : jN s (O + 1233) = 8193) (hO : tOb t X 0 o) (F : oFF s t O X) : jE2 (m_X13_write s O) (m_X40_write t X) fun r q => r.2 = q.2 ∧ jFx s r.1 (O + 1229) 10 ∧ fWr t q.1 X ∧ oFF r.1 q.1 O X := by
  have v := h.2.2.1
  obtain ⟨g, n, ⟨f1, f2, f3⟩, ⟨c1, c2, c3, c4, c5, c6⟩⟩ := F
  obtain ⟨t1, t2, t3, t4⟩ := tab_lo v
  have hq := qO_lo v 11
  obtain ⟨r, er, a1, a2, a3, a4⟩ := c_mwrite h hC hN1 (by rw [show O + 1230 = O + 1229 + 1 by omega]; exact f1.1)
  obtain ⟨q, eq, b1, hq2⟩ := t_write hO v c6
  have e : r.2 = q.2 := wRes_eq a2 (by
    rcases hq2 with ⟨y, y1, y2, y3, -⟩ | ⟨y1, y2, y3, -⟩ | ⟨y1, y2, y3, -⟩
    · exact .inl ⟨by rw [y3]; exact y1, by rw [y3]; exact y2⟩
    · exact .inr (.inl ⟨y1, y2, y3⟩)
    · exact .inr (.inr ⟨y1, y2, y3⟩))
  refine ⟨r, er, q, eq, e, a1, b1, ?_⟩
  have keep : q.2 ≤ 0 → jf q.1 44 X 22 = jf t 44 X 22 → (∀ k, fG q.1 X k = fG t X k) → oFF r.1 q.1 O X := fun z z1 z2 => by
    have k := (a4 (by omega)).resolve_left (by omega)
    exact ⟨g, n, ⟨f1.kf k (by omega), f2, f3.ext k.2⟩, fun i i0 i1 => by rw [z2]; exact c1 i i0 i1, c2, c3, c4, by rw [z1]; exact c5, c6.wr b1⟩
  rcases hq2 with ⟨y, y1, y2, y3, y4⟩ | ⟨y1, y2, y3, y4, y5⟩ | ⟨y1, y2, y3, y4, y5⟩
  · have := ftO_lo y1
    exact keep (by omega) (by rw [y4]) (fun k => by rw [y4])
  · exact keep (by omega) y4 y5
  · obtain ⟨x1, x2, g1, x3, x4⟩ := a3 (by omega)
    have B : fB r.1 (O + 1229) g1 (totO o) := ⟨x3, y2, f3.ext a1.2⟩
    exact ⟨g1, totO o, B, fun k k0 k1 => (pFi_one v x4 y5 k0 k1).symm, B.by, by omega, y2, y4, c6.wr b1⟩
end jOwrite
