/-! writing an image: what the component answers; two files are one -/
section jIwrite5
variable {s t u w : jS} {B N R n p f a b x y e k z v d lo m S O q r : Int} {g g' : Int → Int} {i j : Int → Int → Int → Int}
/-- what is wrong with an image -/
def wcI (i : Int → Int → Int → Int) (r : Int) : Prop := ¬ hT i ∧ r = 1 ∨ hT i ∧ (∃ x, 0 ≤ x ∧ x < 3 ∧ ¬ wI i x) ∧ r = 2 ∨ hT i ∧ (∀ x, 0 ≤ x → x < 3 → wI i x) ∧ (mI i 0 1 ∨ mI i 0 2 ∨ mI i 1 2) ∧ r = 3 ∨ hT i ∧ (∀ x, 0 ≤ x → x < 3 → wI i x) ∧ (¬ mI i 0 1 ∧ ¬ mI i 0 2 ∧ ¬ mI i 1 2) ∧ ((∃ k, 0 ≤ k ∧ k < 2048 ∧ ¬ gmI i k) ∧ r = 4 ∨ (∀ k, 0 ≤ k → k < 2048 → gmI i k) ∧ (¬ isMk i (i 2 0 0) ∧ r = 5 ∨ isMk i (i 2 0 0) ∧ r = 0))
theorem wcI_one {r r' : Int} (h : wcI i r) (h' : wcI i r') : r = r' := by
  unfold wcI at h h'
  rcases h with ⟨a1, a2⟩ | ⟨a1, a2, a3⟩ | ⟨a1, a2, a3, a4⟩ | ⟨a1, a2, a3, a4⟩ <;> rcases h' with ⟨b1, b2⟩ | ⟨b1, b2, b3⟩ | ⟨b1, b2, b3, b4⟩ | ⟨b1, b2, b3, b4⟩
  · omega
  · exact absurd b1 a1
  · exact absurd b1 a1
  · exact absurd b1 a1
  · exact absurd a1 b1
  · omega
  · obtain ⟨x, x0, x1, x2⟩ := a2; exact absurd (b2 x x0 x1) x2
  · obtain ⟨x, x0, x1, x2⟩ := a2; exact absurd (b2 x x0 x1) x2
  · exact absurd a1 b1
  · obtain ⟨x, x0, x1, x2⟩ := b2; exact absurd (a2 x x0 x1) x2
  · omega
  · rcases a3 with z | z | z
    · exact absurd z b3.1
    · exact absurd z b3.2.1
    · exact absurd z b3.2.2
  · exact absurd a1 b1
  · obtain ⟨x, x0, x1, x2⟩ := b2; exact absurd (a2 x x0 x1) x2
  · rcases b3 with z | z | z
    · exact absurd z a3.1
    · exact absurd z a3.2.1
    · exact absurd z a3.2.2
  · rcases a4 with ⟨⟨k, k0, k1, k2⟩, a4⟩ | ⟨a4, a5⟩ <;> rcases b4 with ⟨⟨k', k0', k1', k2'⟩, b4⟩ | ⟨b4, b5⟩
    · omega
    · exact absurd (b4 k k0 k1) k2
    · exact absurd (a4 k' k0' k1') k2'
    · rcases a5 with ⟨a5, a6⟩ | ⟨a5, a6⟩ <;> rcases b5 with ⟨b5, b6⟩ | ⟨b5, b6⟩
      · omega
      · exact absurd b5 a5
      · exact absurd a5 b5
      · omega
theorem wcI_lo (h : wcI i r) : 0 ≤ r ∧ r ≤ 5 := by
  unfold wcI at h
  rcases h with ⟨a1, a2⟩ | ⟨a1, a2, a3⟩ | ⟨a1, a2, a3, a4⟩ | ⟨a1, a2, a3, ⟨_, a4⟩ | ⟨_, ⟨_, a4⟩ | ⟨_, a4⟩⟩⟩ <;> omega
theorem B4.one {v : Int} (h : B4 g p v) (h' : B4 g' p v) (k0 : p ≤ k) (k1 : k < p + 4) : g k = g' k := by
  obtain ⟨a1, a2, a3, a4⟩ := h
  obtain ⟨b1, b2, b3, b4⟩ := h'
  have : k = p ∨ k = p + 1 ∨ k = p + 2 ∨ k = p + 3 := by omega
  rcases this with e | e | e | e <;> subst e
  · rw [a1, b1]
  · rw [a2, b2]
  · rw [a3, b3]
  · rw [a4, b4]
theorem B2.one {v : Int} (h : B2 g p v) (h' : B2 g' p v) (k0 : p ≤ k) (k1 : k < p + 2) : g k = g' k := by
  obtain ⟨a1, a2⟩ := h
  obtain ⟨b1, b2⟩ := h'
  have : k = p ∨ k = p + 1 := by omega
  rcases this with e | e <;> subst e
  · rw [a1, b1]
  · rw [a2, b2]
theorem pRw.one {a b c d e f h : Int} (r : pRw g p a b c d e f h) (r' : pRw g' p a b c d e f h) (k0 : p ≤ k) (k1 : k < p + 32) : g k = g' k := by
  obtain ⟨a1, a2, a3, a4, a5, a6, a7, a8⟩ := r
  obtain ⟨b1, b2, b3, b4, b5, b6, b7, b8⟩ := r'
  by_cases c1 : k < p + 4
  · exact a1.one b1 (by omega) (by omega)
  by_cases c2 : k < p + 8
  · exact a2.one b2 (by omega) (by omega)
  by_cases c3 : k < p + 12
  · exact a3.one b3 (by omega) (by omega)
  by_cases c4 : k < p + 16
  · exact a4.one b4 (by omega) (by omega)
  by_cases c5 : k < p + 20
  · exact a5.one b5 (by omega) (by omega)
  by_cases c6 : k < p + 24
  · exact a6.one b6 (by omega) (by omega)
  by_cases c7 : k < p + 28
  · exact a7.one b7 (by omega) (by omega)
  · exact a8.one b8 (by omega) (by omega)
/-- two files that are owed agree -/
theorem pIm_one (vi : vIm i) (h : pIm i g) (h' : pIm i g') (k0 : 0 ≤ k) (k1 : k < ttI i) : g k = g' k := by
  obtain ⟨⟨a1, a2, a3, a4, a5, a6, a7, a8, a9, a10, a11, a12, a13, a14⟩, rs, rn, o0, o1, o2, o3, o4, o5, o6, o7, o8, o9⟩ := h
  obtain ⟨⟨b1, b2, b3, b4, b5, b6, b7, b8, b9, b10, b11, b12, b13, b14⟩, rs', rn', p0, p1, p2, p3, p4, p5, p6, p7, p8, p9⟩ := h'
  have V := fun x (x0 : 0 ≤ x) (x1 : x < 3) => (vi.1 x x0 x1).1
  by_cases c : k < 52
  · by_cases c1 : k < 4
    · exact a1.one b1 (by omega) (by omega)
    by_cases c2 : k < 8
    · exact a2.one b2 (by omega) (by omega)
    by_cases c3 : k < 16
    · rw [a3 k (by omega) c3, b3 k (by omega) c3]
    by_cases c4 : k < 18
    · exact a4.one b4 (by omega) (by omega)
    by_cases c5 : k < 20
    · exact a5.one b5 (by omega) (by omega)
    by_cases c6 : k < 24
    · exact a6.one b6 (by omega) (by omega)
    by_cases c7 : k < 28
    · exact a7.one b7 (by omega) (by omega)
    by_cases c8 : k < 32
    · exact a8.one b8 (by omega) (by omega)
    by_cases c9 : k < 36
    · exact a9.one b9 (by omega) (by omega)
    by_cases c10 : k < 40
    · exact a10.one b10 (by omega) (by omega)
    by_cases c11 : k < 42
    · exact a11.one b11 (by omega) (by omega)
    by_cases c12 : k < 44
    · exact a12.one b12 (by omega) (by omega)
    by_cases c13 : k < 46
    · exact a13.one b13 (by omega) (by omega)
    · rw [a14 k (by omega) c, b14 k (by omega) c]
  have row : ∀ x, 0 ≤ x → x < 3 → 52 + 32 * rI i x ≤ k → k < 52 + 32 * rI i (x + 1) → g k = g' k := fun x x0 x1 l0 l1 => by
    have r := (rI_lo vi x0 (show x ≤ 3 by omega)).2.2.2 x1
    have v := V x x0 x1
    have c : ¬ i 1 x 0 = 0 := fun z => by omega
    exact (rs x x0 x1 c).1.one (rs' x x0 x1 c).1 l0 (by omega)
  have area : ∀ x, 0 ≤ x → x < 3 → eI i x ≤ k → k < eI i (x + 1) → g k = g' k := fun x x0 x1 l0 l1 => by
    have c : ¬ i 1 x 0 = 0 := fun z => by rw [eI_s x0, if_pos z] at l1; omega
    have bl := bI_lo vi x0 x1 c
    obtain ⟨y1, y2⟩ := (rs x x0 x1 c).2
    obtain ⟨w1, w2⟩ := (rs' x x0 x1 c).2
    by_cases q : k < bI i x
    · rw [y1 k l0 q, w1 k l0 q]
    · have e1 := y2 (k - bI i x) (by omega) (by omega)
      have e2 := w2 (k - bI i x) (by omega) (by omega)
      rw [show bI i x + (k - bI i x) = k by omega] at e1 e2
      rw [e1, e2]
  have e0 : eI i 0 = 52 + 32 * (rI i 3 + 1) := rfl
  have z0 : rI i 0 = 0 := rfl
  by_cases d1 : k < 52 + 32 * rI i 1
  · exact row 0 (by omega) (by omega) (by omega) d1
  by_cases d2 : k < 52 + 32 * rI i 2
  · exact row 1 (by omega) (by omega) (by omega) d2
  by_cases d3 : k < 52 + 32 * rI i 3
  · exact row 2 (by omega) (by omega) (by omega) d3
  by_cases d4 : k < eI i 0
  · exact rn.one rn' (by omega) (by omega)
  by_cases d5 : k < eI i 1
  · exact area 0 (by omega) (by omega) (by omega) d5
  by_cases d6 : k < eI i 2
  · exact area 1 (by omega) (by omega) (by omega) d6
  by_cases d7 : k < eI i 3
  · exact area 2 (by omega) (by omega) (by omega) d7
  by_cases d8 : k < ntI i
  · rw [o0 k (by omega) d8, p0 k (by omega) d8]
  by_cases d9 : k < ntI i + 4
  · exact o1.one p1 (by omega) (by omega)
  by_cases d10 : k < ntI i + 8
  · exact o2.one p2 (by omega) (by omega)
  by_cases d11 : k < ntI i + 12
  · exact o3.one p3 (by omega) (by omega)
  by_cases d12 : k < ntI i + 16
  · exact o4.one p4 (by omega) (by omega)
  by_cases d13 : k < ntI i + 20
  · exact o5.one p5 (by omega) (by omega)
  by_cases d14 : k < ntI i + 24
  · exact o6.one p6 (by omega) (by omega)
  by_cases d15 : k < ntI i + 28
  · exact o7.one p7 (by omega) (by omega)
  by_cases d16 : k < ntI i + 28 + mkN i
  · have e1 := o8 (k - (ntI i + 28)) (by omega) (by omega)
    have e2 := p8 (k - (ntI i + 28)) (by omega) (by omega)
    rw [show ntI i + 28 + (k - (ntI i + 28)) = k by omega] at e1 e2
    rw [e1, e2]
  · rw [o9 k (by omega) k1, p9 k (by omega) k1]
theorem T42 (h : jTt s 42 O) : (0 ≤ O ∧ jK s O = 26) ∧ jTt s 43 (O + 1) ∧ jTt s 43 (O + 10) ∧ jTt s 45 (O + 19) ∧ jTt s 46 (O + 21) ∧ jTt s 48 (O + 25) := by
  have k := h.zz.2.2.1
  have f0 := h.fld (k := 0) (o := 1) (t' := 43) (by decide)
  have f1 := h.fld (k := 1) (o := 10) (t' := 43) (by decide)
  have f2 := h.fld (k := 2) (o := 19) (t' := 45) (by decide)
  have f3 := h.fld (k := 3) (o := 21) (t' := 46) (by decide)
  have f4 := h.fld (k := 4) (o := 25) (t' := 48) (by decide)
  exact ⟨⟨h.zz.1, k⟩, f0.2, f1.2, f2.2, f3.2, f4.2⟩
/-- what a writing keeps -/
def fWt (s t : jS) (O : Int) : Prop := jFx s t O 37 ∧ ∀ c a k, O + 10 ≤ a → a < O + 19 ∨ O + 25 ≤ a → jf t c a k = jf s c a k
theorem i_write (T : jTt s 42 O) (hI : cIm s (O + 1) i) (hS : cIs s (O + 1)) (vi : vIm i) : jE (m_X22_write s O) fun q => fWt s q.1 O ∧ cIm q.1 (O + 1) i ∧ ((∃ r, wcI i r ∧ ¬ r = 0 ∧ q.2 = -r ∧ ∀ c a k, a = O + 19 ∨ a = O + 20 → jf q.1 c a k = jf s c a k) ∨ wcI i 0 ∧ 16384 < ttI i ∧ q.2 = -6 ∧ (∀ c a k, a = O + 19 ∨ a = O + 20 → jf q.1 c a k = jf s c a k) ∨ wcI i 0 ∧ ttI i ≤ 16384 ∧ q.2 = ttI i ∧ ∃ g, iB q.1 (O + 19) g (ttI i) ∧ pIm i g) := by
  obtain ⟨-, T1, T2, T3, T4, T5⟩ := T42 T
  rw [em_X22_write]; unfold dm_X22_write
  refine jS_call (i_wseg T1 hI vi) fun q ⟨k1, hq⟩ => ?_
  have I1 := hI.ws k1
  have F1 : ∀ c a k, ¬ a = O + 1 → jf q.1 c a k = jf s c a k := fun c a k ha => k1.1.F (by omega) k
  have bad : ∀ (t : jS) (r : Int), jFx s t O 37 → (∀ c a k, ¬ a = O + 1 → jf t c a k = jf s c a k) → cIm t (O + 1) i → wcI i r → ¬ r = 0 → jE (u_X22_write_23 t O r) fun q => fWt s q.1 O ∧ cIm q.1 (O + 1) i ∧ ((∃ r, wcI i r ∧ ¬ r = 0 ∧ q.2 = -r ∧ ∀ c a k, a = O + 19 ∨ a = O + 20 → jf q.1 c a k = jf s c a k) ∨ wcI i 0 ∧ 16384 < ttI i ∧ q.2 = -6 ∧ (∀ c a k, a = O + 19 ∨ a = O + 20 → jf q.1 c a k = jf s c a k) ∨ wcI i 0 ∧ ttI i ≤ 16384 ∧ q.2 = ttI i ∧ ∃ g, iB q.1 (O + 19) g (ttI i) ∧ pIm i g) := fun t r kt ht hi hr r0 => by
    have := wcI_lo hr
    rw [eu_X22_write_23]; unfold du_X22_write_23
    rw [if_pos (by omega), W32_in (by omega) (by omega)]
    exact jS_end ⟨⟨kt, fun c a k a0 a1 => ht c a k (by omega)⟩, hi, .inl ⟨r, hr, r0, rfl, fun c a k ha => ht c a k (by omega)⟩⟩
  have K1 : jFx s q.1 O 37 := k1.1.wide (by omega) (by omega)
  have go : hT i → (∀ x, 0 ≤ x → x < 3 → wI i x) → (¬ mI i 0 1 ∧ ¬ mI i 0 2 ∧ ¬ mI i 1 2) → jE ((m_X23_wrongMarks q.1 (O + 1)).bind fun q2 => u_X22_write_23 q2.1 O q2.2) fun q => fWt s q.1 O ∧ cIm q.1 (O + 1) i ∧ ((∃ r, wcI i r ∧ ¬ r = 0 ∧ q.2 = -r ∧ ∀ c a k, a = O + 19 ∨ a = O + 20 → jf q.1 c a k = jf s c a k) ∨ wcI i 0 ∧ 16384 < ttI i ∧ q.2 = -6 ∧ (∀ c a k, a = O + 19 ∨ a = O + 20 → jf q.1 c a k = jf s c a k) ∨ wcI i 0 ∧ ttI i ≤ 16384 ∧ q.2 = ttI i ∧ ∃ g, iB q.1 (O + 19) g (ttI i) ∧ pIm i g) := fun h1 h2 h3 => by
    refine jS_call (i_wmarks (T1.ext k1.1.2) I1 vi h1.1) fun q' ⟨k2, hq'⟩ => ?_
    have I2 := I1.wm k2
    have F2 : ∀ c a k, ¬ a = O + 1 → jf q'.1 c a k = jf s c a k := fun c a k ha => (k2.1.F (by omega) k).trans (F1 c a k ha)
    have K2 : jFx s q'.1 O 37 := K1.trans (k2.1.wide (by omega) (by omega))
    rcases hq' with ⟨r1, k, w0, w1, w2, -⟩ | ⟨r1, r2, r3⟩ | ⟨r1, r2, r3⟩
    · rw [r1]; exact bad _ 4 K2 F2 I2 (.inr (.inr (.inr ⟨h1, h2, h3, .inl ⟨⟨k, w0, w1, w2⟩, rfl⟩⟩))) (by omega)
    · rw [r1]; exact bad _ 5 K2 F2 I2 (.inr (.inr (.inr ⟨h1, h2, h3, .inr ⟨r2, .inl ⟨r3, rfl⟩⟩⟩))) (by omega)
    · have W0 : wcI i 0 := .inr (.inr (.inr ⟨h1, h2, h3, .inr ⟨r2, .inr ⟨r3, rfl⟩⟩⟩))
      rw [r1, eu_X22_write_23]; unfold du_X22_write_23
      rw [if_neg (by omega)]
      have hV : iV q'.1 (O + 21) (O + 1) i := ⟨T4.ext K2.2, T1.ext K2.2, I2, fun x x0 x1 => by rw [F2 _ _ _ (by unfold vsg; omega)]; exact hS x x0 x1, vi, by omega, h1.1⟩
      refine jS_call (i_wall hV) fun q2 ⟨e2, g, z2, P⟩ => ?_
      have I3 := I2.kf z2.1 (by omega)
      have F3 : ∀ c a k, ¬ a = O + 1 → ¬ (O + 21 ≤ a ∧ a < O + 25) → jf q2.1 c a k = jf s c a k := fun c a k ha hb => (z2.1.F (by omega) k).trans (F2 c a k ha)
      have K3 : jFx s q2.1 O 37 := K2.trans (z2.1.wide (by omega) (by omega))
      by_cases c : 16384 < ttI i
      · rw [if_pos c] at e2
        rw [if_pos e2]
        exact jS_end ⟨⟨K3, fun c a k a0 a1 => F3 c a k (by omega) (by omega)⟩, I3, .inr (.inl ⟨W0, c, rfl, fun c a k ha => F3 c a k (by omega) (by omega)⟩)⟩
      · rw [if_neg c] at e2
        rw [if_neg (by omega)]
        simp only [jls]
        rw [z2.2.1]
        have t0 : 0 ≤ ttI i := z2.2.2.1
        rw [eu_X22_write_67]; unfold du_X22_write_67
        refine jS_for (fun m t => jFx q2.1 t (O + 19) 2 ∧ jf t 29 (O + 19) 1 = ttI i ∧ ∀ k, 0 ≤ k → k < m → jf t 1001 (O + 19 + 1) k = sb (g k)) (fun m => [O, m]) 0 (ttI i) t0 ⟨jFx.rfl.jp rfl (by omega) (by omega), by (repeat (first | rw [jf_neg (by omega)] | rw [jf_pos (by omega)] | rw [ou_neg (by omega)] | rw [ou_pos (by omega)])), fun k k0 k1 => by omega⟩ (fun m t m0 m1 ⟨y1, y2, y3⟩ => ?_) (fun t ⟨y1, y2, y3⟩ => ?_)
        · show jE (b_X22_write_67 t O m) _
          unfold b_X22_write_67
          obtain ⟨gbz, gs⟩ := z2.2.2.2 m m0 m1
          rw [y2, if_pos m1, jlt_in m0 (by omega), Option.bind_some, y1.F (by omega), gs (by omega), jst_in m0 (by omega), Option.bind_some, W8_sb, sb_mod gbz.1 gbz.2, W32_in (by omega) (by omega)]
          refine jS_end ⟨rfl, y1.jp rfl (by omega) (by omega), by (repeat (first | rw [jf_neg (by omega)] | rw [jf_pos (by omega)] | rw [ou_neg (by omega)] | rw [ou_pos (by omega)])); exact y2, fun k k0 k1 => ?_⟩
          by_cases ck : k = m
          · rw [jf_pos ⟨rfl, rfl, ck⟩, ck]
          · (repeat (first | rw [jf_neg (by omega)] | rw [jf_pos (by omega)] | rw [ou_neg (by omega)] | rw [ou_pos (by omega)])); exact y3 k k0 (by omega)
        · show jE (b_X22_write_67 t O (ttI i)) _
          unfold b_X22_write_67
          rw [y2, if_neg (by omega), eu_X22_write_105]; unfold du_X22_write_105
          rw [y2]
          have K4 : jFx s t O 37 := K3.trans (y1.wide (by omega) (by omega))
          exact jS_inr (jS_end ⟨⟨K4, fun c a k a0 a1 => (y1.F (by omega) k).trans (F3 c a k (by omega) (by omega))⟩, I3.kf y1 (by omega), .inr (.inr ⟨W0, by omega, rfl, g, ⟨⟨y2, t0, fun k k0 k1 => (z2.2.2.2 k k0 k1).1, y3⟩, by omega, T3.ext K4.2⟩, P⟩)⟩)
  rcases hq with ⟨q1, q2⟩ | ⟨q1, q2, x, x0, x1, x2, -⟩ | ⟨q1, q4, q2, x, y, q5, -⟩ | ⟨q1, q4, q5, q2⟩
  · rw [q2, if_pos (by omega)]; exact bad _ 1 K1 F1 I1 (.inl ⟨q1, rfl⟩) (by omega)
  · rw [q2, if_pos (by omega)]; exact bad _ 2 K1 F1 I1 (.inr (.inl ⟨q1, ⟨x, x0, x1, x2⟩, rfl⟩)) (by omega)
  · rw [q2, if_pos (by omega)]
    refine bad _ 3 K1 F1 I1 (.inr (.inr (.inl ⟨q1, q4, ?_, rfl⟩))) (by omega)
    rcases q5 with ⟨-, -, z⟩ | ⟨-, -, -, z⟩ | ⟨-, -, -, -, z⟩
    · exact .inl z
    · exact .inr (.inl z)
    · exact .inr (.inr z)
  · rw [q2, if_neg (by omega)]; exact go q1 q4 q5
end jIwrite5
