/-! images: what a segment is for never changes -/
section jK28
variable {s t u w : jS} {O X b r x y z v a m p c n i0 : Int} {i i' : Int → Int → Int → Int}
/-- sorts of segments are kept -/
def k28 (s u : jS) : Prop := ∀ a, jf u 28 a 0 = jf s 28 a 0
theorem k28.rfl : k28 s s := fun _ => Eq.refl _
theorem k28.trans (h : k28 s u) (g : k28 u w) : k28 s w := fun a => (g a).trans (h a)
theorem k28.jp {c a k v : Int} (h : k28 s u) (q : ¬ (c = 28 ∧ k = 0)) : k28 s (jp u c a k v) := fun a' => by
  rw [jf_neg (fun z => q ⟨z.1.symm, z.2.2.symm⟩)]; exact h a'
theorem k28.is (h : k28 s u) (g : cIs s b) : cIs u b := fun x x0 x1 => by rw [h]; exact g x x0 x1
theorem jE_and {α : Type} {y : Option α} {P Q : α → Prop} (h : jE y P) (g : jE y Q) : jE y fun r => P r ∧ Q r := by
  obtain ⟨r, e, p⟩ := h
  obtain ⟨r', e', q⟩ := g
  rw [e] at e'
  cases e'
  exact ⟨r, e, p, q⟩
theorem i_clear28 : jE (m_X23_clear u b) fun q => k28 u q.1 := by
  rw [em_X23_clear]; unfold dm_X23_clear
  simp only [jls]
  have k1 : k28 u (jp (jp u 27 b 2 0) 27 b 3 1) := (k28.rfl.jp (by omega)).jp (by omega)
  generalize jp (jp u 27 b 2 0) 27 b 3 1 = s1 at k1 ⊢
  rw [eu_X23_clear_12]; unfold du_X23_clear_12
  refine jS_for (fun x t => k28 u t) (fun x => [b, x]) 0 3 (by omega) k1 (fun x t x0 x1 g => ?_) (fun t g => ?_)
  · show jE (b_X23_clear_12 t b x) _
    unfold b_X23_clear_12
    rw [if_pos x1, jix_in x0 x1, Option.bind_some, jzb_in (.inl _root_.rfl), Option.bind_some]
    simp only [jls]
    rw [W32_in (by omega) (by omega)]
    exact jS_end ⟨_root_.rfl, g.jp (by omega)⟩
  · show jE (b_X23_clear_12 t b 3) _
    unfold b_X23_clear_12
    rw [if_neg (by omega), eu_X23_clear_33]; unfold du_X23_clear_33
    rw [eu_X23_clear_35]; unfold du_X23_clear_35
    refine jS_inr ?_
    refine jS_for (fun x t => k28 u t) (fun x => [b, x]) 0 2048 (by omega) g (fun x t x0 x1 g => ?_) (fun t g => ?_)
    · show jE (b_X23_clear_35 t b x) _
      unfold b_X23_clear_35
      rw [if_pos x1, jst_in x0 x1, Option.bind_some, W32_in (by omega) (by omega)]
      exact jS_end ⟨_root_.rfl, g.jp (by omega)⟩
    · show jE (b_X23_clear_35 t b 2048) _
      unfold b_X23_clear_35
      rw [if_neg (by omega)]
      exact jS_inr (jS_end g)
theorem i_lie28 : jE (m_X24_lie u v x y) fun q => k28 u q.1 := by
  rw [em_X24_lie]; unfold dm_X24_lie
  have e12 : ∀ u', k28 u u' → jE (u_X24_lie_12 u' v x y) fun q => k28 u q.1 := fun u' h => by
    rw [eu_X24_lie_12]; unfold du_X24_lie_12
    rw [jzb_in (.inr _root_.rfl), Option.bind_some]
    simp only [jls]
    exact jS_end (((h.jp (by omega)).jp (by omega)).jp (by omega))
  simp only [jls]
  split
  · exact e12 _ (k28.rfl.jp (by omega))
  · exact e12 _ .rfl
theorem i_seg28 (x0 : 0 ≤ x) (x1 : x < 3) : jE (m_X22_segment s O x a m) fun q => k28 s q.1 := by
  rw [em_X22_segment]; unfold dm_X22_segment
  rw [e_X22_isSegment, if_pos (show ¬ x < 0 ∧ x < 3 by omega), Option.bind_some, if_neg (show ¬ (1 : Int) = 0 by decide), e_X22_in, Option.bind_some]
  have hm : ∀ w, jE (u_X22_segment_34 s O x a m w 0 m) fun q => k28 s q.1 := fun w => by
    rw [eu_X22_segment_34]; unfold du_X22_segment_34
    rw [e_X22_in, Option.bind_some]
    by_cases c : ¬ m < 0 ∧ ¬ w < m
    · rw [if_pos c, if_neg (show ¬ (1 : Int) = 0 by decide), jix_in x0 x1, Option.bind_some]
      exact jS_call i_lie28 fun q g => jS_end g
    · rw [if_neg c, if_pos _root_.rfl]
      exact jS_end .rfl
  by_cases c : ¬ a < 0 ∧ ¬ 131071 < a
  · rw [if_pos c, if_neg (show ¬ (1 : Int) = 0 by decide)]
    split
    · exact hm _
    · exact hm _
  · rw [if_neg c, if_pos _root_.rfl]
    exact jS_end .rfl
theorem i_put28 (hI : cIm s (O + 1) i) (x0 : 0 ≤ x) (x1 : x < 3) (h0 : ¬ i 1 x 0 = 0) (h1 : i 1 x 2 < 4096) : jE (m_X22_put s O x 1 p) fun q => k28 s q.1 := by
  obtain ⟨a1, a2, a3, a4, a5⟩ := hI
  obtain ⟨b1, b2⟩ := a1 x x0 x1
  obtain ⟨b3, b4, b5, b6⟩ := b2 h0
  obtain ⟨z0, z1⟩ := a5 x x0 x1
  rw [em_X22_put]; unfold dm_X22_put
  rw [e_X22_isSegment, if_pos (show ¬ x < 0 ∧ x < 3 by omega), Option.bind_some, if_neg (show ¬ (1 : Int) = 0 by decide), jix_in x0 x1, Option.bind_some, if_neg (show ¬ jf s 28 (((O + 1) + 1) + 2 + 2 * x) 2 = 0 by rw [show jf s 28 (((O + 1) + 1) + 2 + 2 * x) 2 = i 1 x 0 from b1]; exact h0), e_X22_in, if_pos (show ¬ (1 : Int) < 1 ∧ ¬ (8 : Int) < 1 by decide), Option.bind_some, if_neg (show ¬ (1 : Int) = 0 by decide), Option.bind_some]
  have z : jf s 28 (((O + 1) + 1) + 2 + 2 * x) 4 = i 1 x 2 := b4
  rw [z, W32_in (by rw [b4] at z0; omega) (by omega), if_neg (by omega), eu_X22_put_59]; unfold du_X22_put_59
  refine jS_for (fun k u => (k = 0 → u = s) ∧ k28 s u) (fun k => [O, x, 1, p, k]) 0 1 (by omega) ⟨fun _ => _root_.rfl, .rfl⟩ (fun k u k0 k1 e => ?_) (fun u e => ?_)
  · have : k = 0 := by omega
    subst this
    have := e.1 _root_.rfl
    subst this
    show jE (b_X22_put_59 u O x 1 p 0) _
    unfold b_X22_put_59
    rw [if_pos (show (0 : Int) < 1 by decide), jix_in x0 x1, Option.bind_some, show m_X24_add u (((O + 1) + 1) + 2 + 2 * x) _ = _ from i_add (v := vsg (O + 1) x) z0 (by rw [b4]; exact h1), Option.bind_some]
    rw [show W32 (0 + 1) = 0 + 1 from W32_in (by decide) (by decide)]
    exact jS_end ⟨_root_.rfl, fun q => absurd q (by decide), (k28.rfl.jp (by omega)).jp (by omega)⟩
  · show jE (b_X22_put_59 u O x 1 p 1) _
    unfold b_X22_put_59
    rw [if_neg (show ¬ (1 : Int) < 1 by decide)]
    exact jS_inr (jS_end e.2)
theorem i_mark28 (v0 : 0 ≤ v) (v1 : v < 4096) : jE (m_X22_mark s O v 1) fun q => k28 s q.1 := by
  rw [em_X22_mark]; unfold dm_X22_mark
  rw [e_X22_in, Option.bind_some]
  by_cases c : v = 4095
  · rw [if_neg (show ¬ (¬ v < 0 ∧ ¬ 4094 < v) by omega), if_pos _root_.rfl]
    exact jS_end .rfl
  · rw [if_pos (show ¬ v < 0 ∧ ¬ 4094 < v by omega), if_neg (show ¬ (1 : Int) = 0 by decide), jdv_in (by decide), Option.bind_some]
    split
    · rw [jdv_in (by decide), Option.bind_some, I_div_n v0 (by omega) (by omega) (by omega), jlt_in (by omega) (by omega), Option.bind_some]
      split
      · exact jS_end .rfl
      · rw [Option.bind_some, jst_in (by omega) (by omega), Option.bind_some]
        exact jS_end (k28.rfl.jp (by omega))
    · exact jS_end .rfl
/-- a writing keeps them too -/
theorem i_write28 (T : jTt s 42 O) (hI : cIm s (O + 1) i) (hS : cIs s (O + 1)) (vi : vIm i) : jE (m_X22_write s O) fun q => cIs q.1 (O + 1) := by
  obtain ⟨-, T1, T2, T3, T4, T5⟩ := T42 T
  have cs : ∀ t, (∀ c a k, ¬ a = O + 1 → ¬ O + 19 ≤ a → jf t c a k = jf s c a k) → cIs t (O + 1) := fun t h x x0 x1 => by
    rw [h _ _ _ (by unfold vsg; omega) (by unfold vsg; omega)]; exact hS x x0 x1
  rw [em_X22_write]; unfold dm_X22_write
  refine jS_call (i_wseg T1 hI vi) fun q ⟨k1, hq⟩ => ?_
  have I1 := hI.ws k1
  have F1 : ∀ c a k, ¬ a = O + 1 → jf q.1 c a k = jf s c a k := fun c a k ha => k1.1.F (by omega) k
  have bad : ∀ (t : jS) (r : Int), (∀ c a k, ¬ a = O + 1 → jf t c a k = jf s c a k) → wcI i r → ¬ r = 0 → jE (u_X22_write_23 t O r) fun q => cIs q.1 (O + 1) := fun t r ht hr r0 => by
    have := wcI_lo hr
    rw [eu_X22_write_23]; unfold du_X22_write_23
    rw [if_pos (by omega), W32_in (by omega) (by omega)]
    exact jS_end (cs _ fun c a k q _ => ht c a k q)
  have go : hT i → (∀ x, 0 ≤ x → x < 3 → wI i x) → (¬ mI i 0 1 ∧ ¬ mI i 0 2 ∧ ¬ mI i 1 2) → jE ((m_X23_wrongMarks q.1 (O + 1)).bind fun q2 => u_X22_write_23 q2.1 O q2.2) fun q => cIs q.1 (O + 1) := fun h1 h2 h3 => by
    refine jS_call (i_wmarks (T1.ext k1.1.2) I1 vi h1.1) fun q' ⟨k2, hq'⟩ => ?_
    have I2 := I1.wm k2
    have F2 : ∀ c a k, ¬ a = O + 1 → jf q'.1 c a k = jf s c a k := fun c a k ha => (k2.1.F (by omega) k).trans (F1 c a k ha)
    have K1 : jFx s q.1 O 37 := k1.1.wide (by omega) (by omega)
    have K2 : jFx s q'.1 O 37 := K1.trans (k2.1.wide (by omega) (by omega))
    rcases hq' with ⟨r1, k, w0, w1, w2, -⟩ | ⟨r1, r2, r3⟩ | ⟨r1, r2, r3⟩
    · rw [r1]; exact bad _ 4 F2 (.inr (.inr (.inr ⟨h1, h2, h3, .inl ⟨⟨k, w0, w1, w2⟩, _root_.rfl⟩⟩))) (by omega)
    · rw [r1]; exact bad _ 5 F2 (.inr (.inr (.inr ⟨h1, h2, h3, .inr ⟨r2, .inl ⟨r3, _root_.rfl⟩⟩⟩))) (by omega)
    · rw [r1, eu_X22_write_23]; unfold du_X22_write_23
      rw [if_neg (by omega)]
      have hV : iV q'.1 (O + 21) (O + 1) i := ⟨T4.ext K2.2, T1.ext K2.2, I2, fun x x0 x1 => by rw [F2 _ _ _ (by unfold vsg; omega)]; exact hS x x0 x1, vi, by omega, h1.1⟩
      refine jS_call (i_wall hV) fun q2 ⟨e2, g, z2, P⟩ => ?_
      have F3 : ∀ c a k, ¬ a = O + 1 → ¬ (O + 21 ≤ a ∧ a < O + 25) → jf q2.1 c a k = jf s c a k := fun c a k ha hb => (z2.1.F (by omega) k).trans (F2 c a k ha)
      by_cases c : 16384 < ttI i
      · rw [if_pos c] at e2
        rw [if_pos e2]
        exact jS_end (cs _ fun c a k q q' => F3 c a k q (by omega))
      · rw [if_neg c] at e2
        rw [if_neg (by omega)]
        simp only [jls]
        rw [z2.2.1]
        have t0 : 0 ≤ ttI i := z2.2.2.1
        rw [eu_X22_write_67]; unfold du_X22_write_67
        refine jS_for (fun m t => jFx q2.1 t (O + 19) 2 ∧ jf t 29 (O + 19) 1 = ttI i) (fun m => [O, m]) 0 (ttI i) t0 ⟨jFx.rfl.jp _root_.rfl (by omega) (by omega), by (repeat (first | rw [jf_neg (by omega)] | rw [jf_pos (by omega)] | rw [ou_neg (by omega)] | rw [ou_pos (by omega)]))⟩ (fun m t m0 m1 ⟨y1, y2⟩ => ?_) (fun t ⟨y1, y2⟩ => ?_)
        · show jE (b_X22_write_67 t O m) _
          unfold b_X22_write_67
          obtain ⟨gbz, gs⟩ := z2.2.2.2 m m0 m1
          rw [y2, if_pos m1, jlt_in m0 (by omega), Option.bind_some, y1.F (by omega), gs (by omega), jst_in m0 (by omega), Option.bind_some, W32_in (by omega) (by omega)]
          exact jS_end ⟨_root_.rfl, y1.jp _root_.rfl (by omega) (by omega), by (repeat (first | rw [jf_neg (by omega)] | rw [jf_pos (by omega)] | rw [ou_neg (by omega)] | rw [ou_pos (by omega)])); exact y2⟩
        · show jE (b_X22_write_67 t O (ttI i)) _
          unfold b_X22_write_67
          rw [y2, if_neg (by omega), eu_X22_write_105]; unfold du_X22_write_105
          rw [y2]
          exact jS_inr (jS_end (cs _ fun c a k q q' => (y1.F (by omega) k).trans (F3 c a k q (by omega))))
  rcases hq with ⟨q1, q2⟩ | ⟨q1, q2, x, x0, x1, x2, -⟩ | ⟨q1, q4, q2, x, y, q5, -⟩ | ⟨q1, q4, q5, q2⟩
  · rw [q2, if_pos (by omega)]; exact bad _ 1 F1 (.inl ⟨q1, _root_.rfl⟩) (by omega)
  · rw [q2, if_pos (by omega)]; exact bad _ 2 F1 (.inr (.inl ⟨q1, ⟨x, x0, x1, x2⟩, _root_.rfl⟩)) (by omega)
  · rw [q2, if_pos (by omega)]
    refine bad _ 3 F1 (.inr (.inr (.inl ⟨q1, q4, ?_, _root_.rfl⟩))) (by omega)
    rcases q5 with ⟨-, -, z⟩ | ⟨-, -, -, z⟩ | ⟨-, -, -, -, z⟩
    · exact .inl z
    · exact .inr (.inl z)
    · exact .inr (.inr z)
  · rw [q2, if_neg (by omega)]; exact go q1 q4 q5
end jK28
