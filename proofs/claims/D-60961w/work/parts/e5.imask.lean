/-! questions about a read image, on both sides; what a read image obeys -/
section jImask
variable {s t : jS} {O X n x k w a v : Int} {g : Int → Int} {i : Int → Int → Int → Int}
def gIm (i : Int → Int → Int → Int) : Prop := ¬ i 1 0 0 = 0 ∧ (∀ x, 0 ≤ x → x < 3 → ¬ i 1 x 0 = 0 → enI i x ≤ 131072) ∧ isMk i (i 2 0 0) ∧ (∀ k, ¬ 2 * k < i 1 0 2 → i 3 k 0 = 0) ∧ i 1 0 2 % 2 = 0
theorem gIm_of (h : Gd (JAll g n)) : gIm (iR g) := by
  unfold JAll at h
  rw [Gd_app, Gd_app, Gd_app] at h
  obtain ⟨-, -, g3, g4⟩ := h
  unfold JSegs at g3
  rw [Gd_cons, Gd_app, ckF_gd] at g3
  obtain ⟨⟨a1, a2, a3⟩, a4, -⟩ := g3
  unfold JNote at g4
  simp only [Gd_cons, Gd_app] at g4
  have ent := g4.2.2.2.2.2.2.2.2.2.2.1
  refine ⟨?_, fun x x0 x1 hx => ?_, ent, fun k hk => ?_, a3⟩
  · show ¬ (if jw' g 0 = -1 then (0 : Int) else 1) = 0
    rw [if_neg a1]; decide
  · have hx' : ¬ (if jw' g x = -1 then (0 : Int) else 1) = 0 := hx
    have nw : ¬ jw' g x = -1 := fun z => by rw [if_pos z] at hx'; exact hx' rfl
    have := (Gd_cons.mp (a4 x x0 x1)).1.resolve_left nw
    show it g (jw' g x) 2 + it g (jw' g x) 4 + (it g (jw' g x) 5 - it g (jw' g x) 4) ≤ 131072
    omega
  · show mkG g k = 0
    unfold mkG
    rw [if_neg fun z => hk z.2]
def qAb (i : Int → Int → Int → Int) (x w : Int) : Int := if 0 ≤ x ∧ x < 3 then (if w = 0 then (if i 1 x 0 = 0 then 0 else 1) else if i 1 x 0 = 0 then -1 else if 1 ≤ w ∧ w ≤ 3 then i 1 x w else -1) else -1
theorem i_qAb (h : cIm s (O + 10) i) : m_X22_about s O x w = some (qAb i x w) := by
  rw [em_X22_about]; unfold dm_X22_about qAb
  rw [e_X22_isSegment, Option.bind_some]
  by_cases c : 0 ≤ x ∧ x < 3
  · obtain ⟨a1, a2⟩ := h.1 x c.1 c.2
    rw [if_pos (show ¬ x < 0 ∧ x < 3 by omega), if_neg (by decide), if_pos c, jix_in c.1 c.2, Option.bind_some, em_X24_tell]; unfold dm_X24_tell
    rw [show jf s 28 (O + 10 + 1 + 2 + 2 * x) 2 = i 1 x 0 from a1]
    by_cases c0 : w = 0
    · rw [if_pos c0, if_pos c0]
      by_cases d : i 1 x 0 = 0
      · rw [if_pos d, if_pos d]; rfl
      · rw [if_neg d, if_neg d]; rfl
    rw [if_neg c0, if_neg c0]
    by_cases d : i 1 x 0 = 0
    · rw [if_pos d, if_pos d]; rfl
    obtain ⟨b1, b2, b3, -⟩ := a2 d
    rw [if_neg d, if_neg d, show jf s 28 (O + 10 + 1 + 2 + 2 * x) 3 = i 1 x 1 from b1, show jf s 28 (O + 10 + 1 + 2 + 2 * x) 4 = i 1 x 2 from b2, show jf s 28 (O + 10 + 1 + 2 + 2 * x) 5 = i 1 x 3 from b3]
    by_cases c1 : w = 1
    · rw [if_pos c1, if_pos (by omega), c1]; rfl
    rw [if_neg c1]
    by_cases c2 : w = 2
    · rw [if_pos c2, if_pos (by omega), c2]; rfl
    rw [if_neg c2]
    by_cases c3 : w = 3
    · rw [if_pos c3, if_pos (by omega), c3]; rfl
    rw [if_neg c3, if_neg (by omega)]; rfl
  · rw [if_neg (show ¬ (¬ x < 0 ∧ x < 3) by omega), if_pos rfl, if_neg c]
theorem tIm.at1 (h : tIm t X 1 i) (x0 : 0 ≤ x) (x1 : x < 3) : jf t 1002 (X + 1) (3 + x) = i 1 x 0 ∧ (¬ i 1 x 0 = 0 → jf t 1000 (X + 2) (3 + x) = i 1 x 1 ∧ jf t 1000 (X + 4) (3 + x) = i 1 x 2 ∧ jf t 1000 (X + 3) (3 + x) = i 1 x 3 ∧ ∀ k, 0 ≤ k → k < i 1 x 2 → jf t 1000 (X + 5) (4096 * (3 + x) + k) = i 0 x k) := by
  have := h.1 x x0 x1
  unfold tSg at this
  rw [show 3 * (1 : Int) + x = 3 + x by omega] at this
  exact this
theorem s_qAb (h : tIm t X 1 i) : m_X42_about t X x w = some (qAb i x w) := by
  rw [em_X42_about]; unfold dm_X42_about qAb
  rw [e_X42_isSegment, Option.bind_some]
  by_cases c : 0 ≤ x ∧ x < 3
  · obtain ⟨a1, a2⟩ := h.at1 c.1 c.2
    rw [if_pos (show ¬ x < 0 ∧ x < 3 by omega), if_neg (show ¬ (1 : Int) = 0 by decide), if_pos c, W32_in (z := 3 + x) (by omega) (by omega), jlt_in (by omega) (by omega), a1, Option.bind_some, Option.bind_some]
    by_cases c0 : w = 0
    · rw [if_neg (show ¬ w < 0 by omega), if_neg (show ¬ 3 < w by omega), if_pos c0, if_pos c0]
      by_cases d : i 1 x 0 = 0
      · rw [if_pos d, if_pos d]
      · rw [if_neg d, if_neg d]
    rw [if_neg c0, if_neg c0]
    by_cases c1 : w < 0
    · rw [if_pos c1, if_neg (show ¬ (1 ≤ w ∧ w ≤ 3) by omega)]
      by_cases d : i 1 x 0 = 0
      · rw [if_pos d]
      · rw [if_neg d]
    rw [if_neg c1]
    by_cases c2 : 3 < w
    · rw [if_pos c2, if_neg (show ¬ (1 ≤ w ∧ w ≤ 3) by omega)]
      by_cases d : i 1 x 0 = 0
      · rw [if_pos d]
      · rw [if_neg d]
    rw [if_neg c2]
    by_cases d : i 1 x 0 = 0
    · rw [if_pos d, if_pos d]
    obtain ⟨b1, b2, b3, -⟩ := a2 d
    rw [if_neg d, if_neg d, if_pos (show 1 ≤ w ∧ w ≤ 3 by omega), jlt_in (by omega) (by omega), jlt_in (by omega) (by omega), jlt_in (by omega) (by omega), b1, b2, b3, Option.bind_some, Option.bind_some, Option.bind_some]
    by_cases e1 : w = 1
    · rw [if_pos e1, e1]
    rw [if_neg e1]
    by_cases e2 : w = 2
    · rw [if_pos e2, e2]
    · rw [if_neg e2, show w = 3 by omega]
  · rw [if_neg (show ¬ (¬ x < 0 ∧ x < 3) by omega), if_pos rfl, if_neg c]
theorem x_told (h : cIm s (O + 10) i) : m_X22_told s O 0 = some (s, i 2 0 0) := by
  rw [em_X22_told]; unfold dm_X22_told
  rw [if_pos rfl, h.2.1]
theorem s_told (h : tIm t X 1 i) : m_X42_told t X 0 = some (t, i 2 0 0) := by
  rw [em_X42_told]; unfold dm_X42_told
  rw [if_pos rfl, jlt_in (by omega) (by omega), Option.bind_some, h.2.1]
/-- an address in a segment -/
def inS (i : Int → Int → Int → Int) (x a : Int) : Prop := ¬ i 1 x 0 = 0 ∧ i 1 x 1 ≤ a ∧ a < enI i x
theorem i_has (h : cIm s (O + 10) i) (v : vIm i) (x0 : 0 ≤ x) (x1 : x < 3) : ∃ r, m_X24_has s (vsg (O + 10) x) a = some r ∧ (r = 1 ∧ inS i x a ∨ r = 0 ∧ ¬ inS i x a) := by
  obtain ⟨a1, a2⟩ := h.1 x x0 x1
  rw [e_X24_has, a1]; unfold inS
  by_cases d : i 1 x 0 = 0
  · rw [if_neg (fun z => z.1 d)]; exact ⟨0, rfl, .inr ⟨rfl, fun z => z.1 d⟩⟩
  obtain ⟨b1, b2, b3, -⟩ := a2 d
  have vv := (v.1 x x0 x1).2 d
  rw [b1, b2, b3, W32_in (z := i 1 x 1 + i 1 x 2) (by omega) (by omega), W32_in (by omega) (by omega)]
  by_cases c : i 1 x 1 ≤ a ∧ a < enI i x
  · rw [if_pos ⟨d, by omega, c.2⟩]; exact ⟨1, rfl, .inl ⟨rfl, d, c⟩⟩
  · rw [if_neg (fun z => c ⟨by omega, z.2.2⟩)]; exact ⟨0, rfl, .inr ⟨rfl, fun z => c z.2⟩⟩
theorem s_end1 (h : tIm t X 1 i) (vi : vIm i) (x0 : 0 ≤ x) (x1 : x < 3) (c : ¬ i 1 x 0 = 0) : m_X42_endOf t X (3 + x) = some (enI i x) := by
  obtain ⟨a1, a2, a3, -⟩ := (h.at1 x0 x1).2 c
  have := (vi.1 x x0 x1).2 c
  rw [e_X42_endOf _ _ _ ⟨by omega, by omega⟩, a1, a2, a3, W32_in (z := i 1 x 1 + i 1 x 2) (by omega) (by omega), W32_in (by omega) (by omega)]; rfl
/-- the byte at a place of a segment -/
def bS (i : Int → Int → Int → Int) (x a : Int) : Int := if a - i 1 x 1 < i 1 x 2 then i 0 x (a - i 1 x 1) else 0
theorem bS_lo (v : vIm i) (x0 : 0 ≤ x) (x1 : x < 3) (h : inS i x a) : 0 ≤ bS i x a ∧ bS i x a < 256 := by
  unfold bS
  by_cases c : a - i 1 x 1 < i 1 x 2
  · rw [if_pos c]; exact ((v.1 x x0 x1).2 h.1).2.2.2.2.2.2 _ (by have := h.2.1; omega) c
  · rw [if_neg c]; omega
theorem i_qBy (hT : jTt s 43 (O + 10)) (h : cIm s (O + 10) i) (v : vIm i) : (∃ x, (0 ≤ x ∧ x < 3) ∧ inS i x a ∧ (∀ y, 0 ≤ y → y < x → ¬ inS i y a) ∧ m_X22_byteIn s O a = some (bS i x a)) ∨ (∀ y, 0 ≤ y → y < 3 → ¬ inS i y a) ∧ m_X22_byteIn s O a = some (-1) := by
  obtain ⟨-, ⟨-, -, -, -, t5⟩, -⟩ := T43 hT
  rw [em_X22_byteIn]; unfold dm_X22_byteIn
  rw [em_X23_at]; unfold dm_X23_at
  rw [eu_X23_at_11]; unfold du_X23_at_11
  have key := jseekR (C := jc4 b_X23_at_11) (s := s) (fun k => [a, O + 10 + 1, 3, k]) (fun k => inS i k a) (fun k => some (vsg (O + 10) k)) (some (-1)) 0 3 (by omega) (fun k k0 k1 hk => ?_) (fun k k0 k1 hk => ?_) (by
    show b_X23_at_11 s a (O + 10 + 1) 3 3 = _
    unfold b_X23_at_11
    rw [if_neg (by omega)])
  rotate_left
  · show b_X23_at_11 s a (O + 10 + 1) 3 k = _
    unfold b_X23_at_11
    obtain ⟨r, er, hr⟩ := i_has (a := a) h v k0 k1
    rw [if_pos k1, jix_in k0 k1, Option.bind_some, show m_X24_has s (O + 10 + 1 + 2 + 2 * k) a = some r from er, Option.bind_some]
    rcases hr with ⟨-, z⟩ | ⟨z, -⟩
    · exact absurd z hk
    · rw [if_pos z, W32_in (by omega) (by omega)]
  · show b_X23_at_11 s a (O + 10 + 1) 3 k = _
    unfold b_X23_at_11
    obtain ⟨r, er, hr⟩ := i_has (a := a) h v k0 k1
    rw [if_pos k1, jix_in k0 k1, Option.bind_some, show m_X24_has s (O + 10 + 1 + 2 + 2 * k) a = some r from er, Option.bind_some]
    rcases hr with ⟨z, -⟩ | ⟨-, z⟩
    · rw [if_neg (by omega)]; rfl
    · exact absurd hk z
  rcases key with ⟨x, x0, x1, hx, hy, e⟩ | ⟨hy, e⟩
  · refine .inl ⟨x, ⟨x0, x1⟩, hx, hy, ?_⟩
    obtain ⟨b1, b2, b3, b4⟩ := (h.1 x x0 x1).2 hx.1
    have vv := (v.1 x x0 x1).2 hx.1
    have hv : 0 ≤ vsg (O + 10) x := (t5 x x0 x1).2.zz.1
    have ha : i 1 x 1 ≤ a ∧ a < i 1 x 1 + i 1 x 2 + i 1 x 3 := hx.2
    rw [e, Option.bind_some, if_neg (by omega), jct_in (t5 x x0 x1).2, e_X24_byteAt _ _ _ (by rw [b1, b2, W32_in (by omega) (by omega)]; omega), Option.bind_some, b1, b2, W32_in (by omega) (by omega)]
    unfold bS
    by_cases c : a - i 1 x 1 < i 1 x 2
    · have := vv.2.2.2.2.2.2 (a - i 1 x 1) (by omega) c
      rw [if_pos c, if_pos c, b4 _ (by omega) c, sb_and this.1 this.2]
    · rw [if_neg c, if_neg c]
  · exact .inr ⟨hy, by rw [e, Option.bind_some, if_pos (by decide)]⟩
theorem s_qBy (h : tIm t X 1 i) (v : vIm i) : (∃ x, (0 ≤ x ∧ x < 3) ∧ inS i x a ∧ (∀ y, 0 ≤ y → y < x → ¬ inS i y a) ∧ m_X42_byteIn t X a = some (bS i x a)) ∨ (∀ y, 0 ≤ y → y < 3 → ¬ inS i y a) ∧ m_X42_byteIn t X a = some (-1) := by
  rw [em_X42_byteIn]; unfold dm_X42_byteIn
  rw [em_X42_segmentAt]; unfold dm_X42_segmentAt
  rw [eu_X42_segmentAt_2]; unfold du_X42_segmentAt_2
  have e38 : ∀ k, 0 ≤ k → k < 3 → u_X42_segmentAt_38 t X a (3 + k) = some (.inl [X, a, 3 + (k + 1)]) := fun k k0 k1 => by
    rw [eu_X42_segmentAt_38]; unfold du_X42_segmentAt_38
    rw [W32_in (by omega) (by omega), show 3 + k + 1 = 3 + (k + 1) by omega]
  have key := jseekR (C := jc3 b_X42_segmentAt_2) (s := t) (fun k => [X, a, 3 + k]) (fun k => inS i k a) (fun k => some (3 + k)) (some (-1)) 0 3 (by omega) (fun k k0 k1 hk => ?_) (fun k k0 k1 hk => ?_) (by
    show b_X42_segmentAt_2 t X a (3 + 3) = _
    unfold b_X42_segmentAt_2
    rw [if_neg (by omega)])
  rotate_left
  · show b_X42_segmentAt_2 t X a (3 + k) = _
    unfold b_X42_segmentAt_2
    obtain ⟨a1, a2⟩ := h.at1 k0 k1
    rw [if_pos (by omega), jlt_in (by omega) (by omega), Option.bind_some, a1]
    by_cases d : i 1 k 0 = 0
    · rw [if_pos d]; exact e38 k k0 k1
    rw [if_neg d, jlt_in (by omega) (by omega), Option.bind_some, (a2 d).1]
    by_cases c1 : a < i 1 k 1
    · rw [if_pos c1]; exact e38 k k0 k1
    rw [if_neg c1, s_end1 h v k0 k1 d, Option.bind_some]
    by_cases c2 : a < enI i k
    · exact absurd ⟨d, by omega, c2⟩ hk
    · rw [if_neg c2]; exact e38 k k0 k1
  · show b_X42_segmentAt_2 t X a (3 + k) = _
    unfold b_X42_segmentAt_2
    obtain ⟨a1, a2⟩ := h.at1 k0 k1
    rw [if_pos (by omega), jlt_in (by omega) (by omega), Option.bind_some, a1, if_neg hk.1, jlt_in (by omega) (by omega), Option.bind_some, (a2 hk.1).1, if_neg (by have := hk.2.1; omega), s_end1 h v k0 k1 hk.1, Option.bind_some, if_pos hk.2.2]
  rw [show (3 : Int) + 0 = 3 by rfl] at key
  rcases key with ⟨x, x0, x1, hx, hy, e⟩ | ⟨hy, e⟩
  · refine .inl ⟨x, ⟨x0, x1⟩, hx, hy, ?_⟩
    obtain ⟨b1, b2, b3, b4⟩ := (h.at1 x0 x1).2 hx.1
    have vv := (v.1 x x0 x1).2 hx.1
    have ha : i 1 x 1 ≤ a ∧ a < i 1 x 1 + i 1 x 2 + i 1 x 3 := hx.2
    rw [e, Option.bind_some, if_neg (by omega), jlt_in (by omega) (by omega), Option.bind_some, jlt_in (by omega) (by omega), Option.bind_some, b1, b2, W32_in (z := a - i 1 x 1) (by omega) (by omega), Option.bind_some]
    unfold bS
    by_cases c : a - i 1 x 1 < i 1 x 2
    · have := b4 (a - i 1 x 1) (by omega) c
      rw [if_pos c, if_pos c, W32_in (z := 4096 * (3 + x)) (by omega) (by omega), W32_in (z := 4096 * (3 + x) + a) (by omega) (by omega), W32_in (by omega) (by omega), jlt_in (by omega) (by omega), Option.bind_some, show 4096 * (3 + x) + a - i 1 x 1 = 4096 * (3 + x) + (a - i 1 x 1) by omega, this]
    · rw [if_neg c, if_neg c]
  · exact .inr ⟨hy, by rw [e, Option.bind_some, if_pos rfl]⟩
theorem q_byte2 (hT : jTt s 43 (O + 10)) (h : cIm s (O + 10) i) (h' : tIm t X 1 i) (v : vIm i) : ∃ b, m_X22_byteIn s O a = some b ∧ m_X42_byteIn t X a = some b ∧ ((∃ x, 0 ≤ x ∧ x < 3 ∧ inS i x a) → 0 ≤ b ∧ b < 256) := by
  rcases i_qBy (a := a) hT h v with ⟨x, ⟨x0, x1⟩, hx, hy, e⟩ | ⟨hy, e⟩
  · rcases s_qBy (a := a) h' v with ⟨x', ⟨x0', x1'⟩, hx', hy', e'⟩ | ⟨hy', e'⟩
    · have : x = x' := by
        rcases Int.lt_trichotomy x x' with q | q | q
        · exact absurd hx (hy' x x0 q)
        · exact q
        · exact absurd hx' (hy x' x0' q)
      subst this
      exact ⟨_, e, e', fun _ => bS_lo v x0 x1 hx⟩
    · exact absurd hx (hy' x x0 x1)
  · rcases s_qBy (a := a) h' v with ⟨x', ⟨x0', x1'⟩, hx', hy', e'⟩ | ⟨hy', e'⟩
    · exact absurd hx' (hy x' x0' x1')
    · exact ⟨_, e, e', fun ⟨x, x0, x1, hx⟩ => absurd hx (hy x x0 x1)⟩
theorem i_qMk (hT : jTt s 43 (O + 10)) (h : cIm s (O + 10) i) (v : vIm i) (g : gIm i) (ha : jin a) : ∃ r, m_X22_marked s O a = some r ∧ (0 < r ↔ isMk i a) := by
  obtain ⟨t1, t2, t3⟩ := i_text hT
  have vv := (v.1 0 (by omega) (by omega)).2 g.1
  obtain ⟨r, er, hr⟩ := i_isMark hT h v g.1 ha
  rw [em_X22_marked]; unfold dm_X22_marked
  rw [er, Option.bind_some]
  rcases hr with ⟨r1, r2⟩ | ⟨r1, r2⟩
  · have r2' := r2
    unfold isMk at r2
    rw [if_neg (by omega), t1, Option.bind_some, jrd_in t2 t3, Option.bind_some, ((h.1 0 (by omega) (by omega)).2 g.1).1, jdv_in (by decide), Option.bind_some, W32_in (by omega) (by omega), I_div_n (by omega) (by omega) (by omega) (by omega), i_length hT h v g.1 (by omega) (by omega), Option.bind_some]
    refine ⟨_, rfl, fun _ => r2', fun _ => ?_⟩
    split <;> omega
  · rw [if_pos r1]
    exact ⟨0, rfl, fun z => by omega, fun z => absurd z r2⟩
theorem s_qMk (h : tIm t X 1 i) (v : vIm i) (g : gIm i) (ha : jin a) : ∃ r, m_X42_marked t X a = some r ∧ (0 < r ↔ isMk i a) := by
  have vv := (v.1 0 (by omega) (by omega)).2 g.1
  have hj := jin_p.mp ha
  obtain ⟨a1, a2⟩ := h.at1 (x := 0) (by omega) (by omega)
  obtain ⟨b1, b2, b3, b4⟩ := a2 g.1
  rw [show (3 : Int) + 0 = 3 by rfl] at a1 b1 b2 b3 b4
  have no : ¬ isMk i a → ∃ r, (some 0 : Option Int) = some r ∧ (0 < r ↔ isMk i a) := fun z => ⟨0, rfl, fun q => by omega, fun q => absurd q z⟩
  rw [em_X42_marked]; unfold dm_X42_marked
  rw [em_X42_isMarkAt]; unfold dm_X42_isMarkAt
  simp only [jlet]
  rw [show W32 (3 * 1) = 3 from W32_in (by omega) (by omega), jlt_in (by omega) (by omega), Option.bind_some, jlt_in (by omega) (by omega), Option.bind_some, Option.bind_some, a1, b1, if_neg g.1, Wz_0, Wz_1]
  by_cases c1 : a < i 1 0 1
  · rw [if_pos c1, Option.bind_some, if_pos rfl]; exact no fun z => by have := z.1; omega
  rw [if_neg c1, W32_in (z := a - i 1 0 1) (by omega) (by omega)]
  by_cases c2 : a - i 1 0 1 < 4096
  rotate_left
  · rw [if_neg c2, Option.bind_some, if_pos rfl]; exact no fun z => by have := z.2.1; omega
  rw [if_pos c2, jdv_in (by decide), Option.bind_some, I_rem_n (by omega) (by omega) (by omega) (by omega)]
  by_cases c3 : (a - i 1 0 1) % 2 = 0
  rotate_left
  · rw [if_neg c3, Option.bind_some, if_pos rfl]; exact no fun z => c3 z.2.2.1
  rw [if_pos c3, jdv_in (by decide), Option.bind_some, I_div_n (by omega) (by omega) (by omega) (by omega), W32_in (z := 2048 * 1) (by omega) (by omega), W32_in (z := 2048 * 1 + (a - i 1 0 1) / 2) (by omega) (by omega), jlt_in (by omega) (by omega), Option.bind_some, h.2.2.2 _ (by omega) (by omega)]
  by_cases c4 : i 3 ((a - i 1 0 1) / 2) 0 = 0
  · rw [if_pos c4, Option.bind_some, if_pos rfl]; exact no fun z => z.2.2.2 c4
  have sz : a - i 1 0 1 < i 1 0 2 := Int.not_le.mp fun z => c4 (g.2.2.2.1 _ (by omega))
  have e : W32 (W32 (12288 * 1) + W32 (2 * ((a - i 1 0 1) / 2))) = 12288 + 2 * ((a - i 1 0 1) / 2) := by rw [W32_in (z := 12288 * (1 : Int)) (by omega) (by omega), W32_in (z := 2 * ((a - i 1 0 1) / 2)) (by omega) (by omega), W32_in (by omega) (by omega)]; omega
  rw [if_neg c4, Option.bind_some, if_neg (by decide), Option.bind_some, W32_in (z := a - i 1 0 1) (by omega) (by omega), jdv_in (by decide), Option.bind_some, I_div_n (by omega) (by omega) (by omega) (by omega), e_X42_sizeOfMark _ _ _ _ (by rw [e]; omega), Option.bind_some]
  refine ⟨_, rfl, fun _ => ⟨by omega, by omega, c3, c4⟩, fun _ => ?_⟩
  split <;> omega
end jImask
