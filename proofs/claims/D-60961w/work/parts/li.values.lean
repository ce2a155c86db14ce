/-! the linker: what names are worth, both sides -/
set_option maxRecDepth 100000
section jLvl
variable {s t u w : jS} {a b k m n o p v l x c f g i j H B C S K X : Int} {O : Int → Int → Int → Int → Int} {d e z y : Int → Int → Int} {G : Int → Int}
theorem LZD.outC (h : LZD C H S O s t e d z G) (o0 : 0 ≤ o) (o1 : o < 4) : m_X36_output s (C + 4275 + 1) o 0 = some (s, ouB d o) ∧ m_X36_output s (C + 4275 + 1) o 1 = some (s, ouE d o) := by
  obtain ⟨v, ⟨c1, c2, c3⟩, -⟩ := h
  have e0 := c_output (x := 0) c2 c3 o0 o1 (.inl rfl)
  have e1 := c_output (x := 1) c2 c3 o0 o1 (.inr rfl)
  rw [if_pos rfl] at e0
  rw [if_neg (by decide)] at e1
  exact ⟨e0, e1⟩
theorem LZD.outT (h : LZD C H S O s t e d z G) (o0 : 0 ≤ o) (o1 : o < 4) : jlt t 1000 (H + 93 + 2) 4 o = some (ouB d o) ∧ jlt t 1000 (H + 93 + 3) 4 o = some (ouE d o) := by
  obtain ⟨v, -, ⟨t1, t2⟩, -⟩ := h
  obtain ⟨q1, q2⟩ := t2.2.2 o o0 o1
  exact ⟨by rw [jlt_in o0 o1, q1], by rw [jlt_in o0 o1, q2]⟩
theorem gpK_lo (v : vLy d) : 2048 ≤ gpK d ∧ gpK d ≤ 4702048 := by
  have := ouB_lo v (o := 2) (by decide) (by decide)
  unfold gpK; omega
theorem LZD.gp (h : LZD C H S O s t e d z G) : m_X35_gp s (C + 4275) = some (s, gpK d) := by
  have lo := ouB_lo h.1 (o := 2) (by decide) (by decide)
  rw [em_X35_gp]; unfold dm_X35_gp
  rw [(h.outC (o := 2) (by decide) (by decide)).1, Option.bind_some]
  dsimp only
  rw [W32_in (by omega) (by omega)]; rfl
theorem plK_first (v : vLy d) (p0 : 0 ≤ p) (p1 : p < d 0 0) (hp : d 3 p < d 4 p) : plK d (d 3 p) = paB d p := by
  have e11 := v.pt p0 p1 (k := d 3 p) (Int.le_refl _) hp
  unfold plK
  rw [e11, show (d 3 p - d 3 p).toNat = 0 by omega]; rfl
/-- a global that means something -/
theorem x_globP (h : LZD C H S O s t e d z G) (g0 : 0 ≤ g) (g1 : g < e 0 0) : ∃ r, m_X35_globalPlace s (C + 4275) g = some (s, r) ∧ m_X37_globalValue t H g = some r ∧ jin r ∧ ∀ k a, (if e 3 g = 2 then k = d 3 (G g) ∧ a = 0 else e 3 g = 1 ∧ syT S O d z (e 4 g) k a) → r = lbP d k a := by
  obtain ⟨v, ⟨c1, c2, c3⟩, ⟨t1, t2⟩, -, ⟨r1, r2, -⟩, ⟨hk, hg, ht, hv⟩, -, h8, -⟩ := id h
  have e6 := hv.1.2.1
  obtain ⟨a1, a2, a3, a4, a5⟩ := hg.2.2 g g0 g1
  obtain ⟨b1, b2, b3, b4, b5⟩ := ht.2.2 g g0 g1
  obtain ⟨-, ⟨e30, e31⟩, gm, gsh, grl⟩ := hv.2.1 g g0 g1
  have J17 : jlt s 1000 (C + 4275 + 17) 600 g = some (hC (e 3 g)) := by rw [jlt_in g0 (by omega), a2]
  have J191 : jlt t 1000 (H + 191) 600 g = some (e 3 g) := by rw [jlt_in g0 (by omega), b2]
  rw [em_X35_globalPlace, em_X37_globalValue]; unfold dm_X35_globalPlace dm_X37_globalValue
  rw [J17, J191, Option.bind_some, Option.bind_some]
  by_cases c1' : e 3 g = 1
  · obtain ⟨⟨hX, -⟩, w0, w4⟩ := gm c1'
    obtain ⟨s18, s19⟩ := a3 c1'
    have eh : hC (e 3 g) = 0 := by unfold hC; rw [if_neg (by omega), if_pos c1']
    have J18 : jlt s 1000 (C + 4275 + 18) 600 g = some (e 4 g / 100) := by rw [jlt_in g0 (by omega), s18]
    have J19 : jlt s 1000 (C + 4275 + 19) 600 g = some (e 4 g % 100) := by rw [jlt_in g0 (by omega), s19]
    have J192 : jlt t 1000 (H + 192) 600 g = some (e 4 g) := by rw [jlt_in g0 (by omega), b3 c1']
    obtain ⟨r, q1, q2, q3, -, q4⟩ := x_symP h hX.1 w0 w4
    rw [if_pos eh, if_pos c1', J18, J19, J192, Option.bind_some, Option.bind_some, Option.bind_some, Option.bind_some, (hk.sym hX.1).1, Option.bind_some, q1, q2, Option.bind_some, Option.bind_some]
    exact ⟨r, rfl, rfl, q3, fun k a q => by rw [if_neg (by omega)] at q; exact q4 k a q.2⟩
  by_cases c2' : e 3 g = 2
  · have eh : hC (e 3 g) = 1 := by unfold hC; rw [if_neg (by omega), if_neg c1', if_pos c2']
    obtain ⟨p0, p1, p2⟩ := r1.2.1 g g0 g1 c2'
    obtain ⟨f1, f2⟩ := r2 g g0 g1 c2'
    have J22 : jlt s 1000 (C + 4275 + 22) 600 g = some (G g) := by rw [jlt_in g0 (by omega), f1]
    have J195 : jlt t 1000 (H + 195) 600 g = some (G g) := by rw [jlt_in g0 (by omega), f2]
    have v0 := v.1
    have J9 : jlt t 1000 (H + 93 + 9) 32 (G g) = some (paB d (G g)) := by rw [jlt_in p0.1 (by omega), (t2.2.1 _ p0.1 p0.2).1]
    have lo := paB_lo v p0.1 p0.2
    rw [if_neg (by omega), if_pos eh, if_neg c1', if_pos c2', J22, J195, Option.bind_some, Option.bind_some, c_spanD c1 c2 c3 v p0.1 p0.2, J9, Option.bind_some, Option.bind_some]
    refine ⟨_, rfl, rfl, ⟨by omega, by omega⟩, fun k a q => ?_⟩
    rw [if_pos c2'] at q
    rw [q.1, q.2, ← plK_first v p0.1 p0.2 p2.1]
    unfold lbP
    split
    · omega
    · rw [if_pos rfl]
  by_cases c3' : e 3 g = 3
  · have eh : hC (e 3 g) = 2 := by unfold hC; rw [if_neg (by omega), if_neg c1', if_neg c2', if_pos c3']
    obtain ⟨m1, m5⟩ := grl c3'
    have J19 : jlt s 1000 (C + 4275 + 19) 600 g = some (e 7 g - 1) := by rw [jlt_in g0 (by omega), a4 c3']
    have J196 : jlt t 1000 (H + 196) 600 g = some (e 7 g) := by rw [jlt_in g0 (by omega), b5 c3']
    have o00 := h.outT (o := 0) (by decide) (by decide)
    have o02 := h.outT (o := 2) (by decide) (by decide)
    have o03 := h.outT (o := 3) (by decide) (by decide)
    have k00 := h.outC (o := 0) (by decide) (by decide)
    have k02 := h.outC (o := 2) (by decide) (by decide)
    have k03 := h.outC (o := 3) (by decide) (by decide)
    have l00 := ouE_lo v (o := 0) (by decide) (by decide)
    have l02 := ouE_lo v (o := 2) (by decide) (by decide)
    have l03 := ouE_lo v (o := 3) (by decide) (by decide)
    have l13 := ouB_lo v (o := 3) (by decide) (by decide)
    have l10 := ouB_lo v (o := 0) (by decide) (by decide)
    have l12 := ouB_lo v (o := 2) (by decide) (by decide)
    have lg := gpK_lo v
    have fin : ∀ r, jin r → ∃ r', some (s, r) = some (s, r') ∧ some r = some r' ∧ jin r' ∧ ∀ k a, (if e 3 g = 2 then k = d 3 (G g) ∧ a = 0 else e 3 g = 1 ∧ syT S O d z (e 4 g) k a) → r' = lbP d k a := fun r hr => ⟨r, rfl, rfl, hr, fun k a q => by rw [if_neg c2'] at q; exact absurd q.1 c1'⟩
    rw [if_neg (by omega), if_neg (by omega), if_pos eh, if_neg c1', if_neg c2', if_pos c3', J19, J196, Option.bind_some, em_X35_given]; unfold dm_X35_given
    simp only [Option.bind_some]
    by_cases q1 : e 7 g = 1
    · rw [if_pos (by omega), if_pos q1, h.gp, Option.bind_some, Option.bind_some, h8]; exact fin _ ⟨by omega, by omega⟩
    by_cases q2 : e 7 g = 2
    · rw [if_neg (by omega), if_pos (by omega), if_neg q1, if_pos q2, k00.2, o00.2, Option.bind_some, Option.bind_some, Option.bind_some]; exact fin _ ⟨by omega, by omega⟩
    by_cases q3 : e 7 g = 3
    · rw [if_neg (by omega), if_neg (by omega), if_pos (by omega), if_neg q1, if_neg q2, if_pos q3, k02.2, o02.2, Option.bind_some, Option.bind_some, Option.bind_some]; exact fin _ ⟨by omega, by omega⟩
    by_cases q4 : e 7 g = 4
    · rw [if_neg (by omega), if_neg (by omega), if_neg (by omega), if_pos (by omega), if_neg q1, if_neg q2, if_neg q3, if_pos q4, k03.1, o03.1, Option.bind_some, Option.bind_some, Option.bind_some]; exact fin _ ⟨by omega, by omega⟩
    · rw [if_neg (by omega), if_neg (by omega), if_neg (by omega), if_neg (by omega), if_neg q1, if_neg q2, if_neg q3, if_neg q4, k03.2, o03.2, Option.bind_some, Option.bind_some, Option.bind_some]; exact fin _ ⟨by omega, by omega⟩
  · have eh : ¬ hC (e 3 g) = 0 ∧ ¬ hC (e 3 g) = 1 ∧ ¬ hC (e 3 g) = 2 := by
      unfold hC
      rw [if_neg c1', if_neg c2', if_neg c3']
      split <;> decide
    rw [if_neg eh.1, if_neg eh.2.1, if_neg eh.2.2, if_neg c1', if_neg c2', if_neg c3']
    exact ⟨0, rfl, rfl, ⟨by decide, by decide⟩, fun k a q => by rw [if_neg c2'] at q; exact absurd q.1 c1'⟩
/-- a symbol's value -/
theorem x_value (h : LZD C H S O s t e d z G) (hX : vsy S O X) : ∃ r, m_X35_valueOf s (C + 4275) (X / 100) (X % 100) = some (s, r) ∧ m_X37_valueOf t H X = some r ∧ jin r ∧ ∀ k a, lT S O e d z G (kyO O e X) k a → r = lbP d k a := by
  obtain ⟨-, -, -, -, -, ⟨hk, hg, ht, hv⟩, -⟩ := id h
  have hX0 := hX.1
  obtain ⟨s1, -, -, s4, s5⟩ := hk.sym hX
  have J14 : jlt s 1000 (C + 4275 + 14) 600 (W32 (W32 (100 * (X / 100)) + X % 100)) = some (if sy O X 3 = 0 then -1 else e 1 X) := by
    rw [W32_in (z := 100 * (X / 100)) (by omega) (by omega), W32_in (by omega) (by omega), show 100 * (X / 100) + X % 100 = X by omega, jlt_in (by omega) (by omega), hg.2.1 X hX]
  have J180 : jlt t 1000 (H + 180) 600 X = some (sy O X 3) := by rw [jlt_in (by omega) (by omega), s5.2.2.2.1]
  rw [em_X35_valueOf, em_X37_valueOf]; unfold dm_X35_valueOf dm_X37_valueOf
  rw [J14, J180, Option.bind_some, Option.bind_some]
  by_cases c : sy O X 3 = 0
  · have hw := s4.2.2.2.2.2.2.2.2.2.2
    have w04 : 0 ≤ sy O X 0 ∧ sy O X 0 ≤ 4 := by
      have l0 := s4.1
      have l1 := s4.2.1
      unfold wOK at hw
      by_cases q : sy O X 0 = -1
      · rw [if_pos q] at hw; exact absurd c hw.2.2
      rw [if_neg q] at hw
      by_cases q4 : sy O X 0 = 4
      · omega
      rw [if_neg q4] at hw
      by_cases q5 : sy O X 0 = 5
      · rw [if_pos q5] at hw; omega
      · omega
    obtain ⟨r, q1, q2, q3, -, q4⟩ := x_symP h hX w04.1 w04.2
    rw [if_pos c, if_pos rfl, if_pos c, s1, Option.bind_some, q1, q2, Option.bind_some, Option.bind_some]
    exact ⟨r, rfl, rfl, q3, fun k a q => q4 k a ((lT_lo hX c).mp q)⟩
  · have g1 := hv.2.2 X ⟨hX, c⟩
    have e6 := hv.1.2.1
    obtain ⟨r, q1, q2, q3, q4⟩ := x_globP h g1.1 g1.2
    have J189 : jlt t 1000 (H + 189) 600 X = some (e 1 X) := by rw [jlt_in (by omega) (by omega), ht.2.1 X ⟨hX, c⟩]
    rw [if_neg c, if_neg (by omega), if_neg c, q1, J189, Option.bind_some, Option.bind_some, q2, Option.bind_some]
    exact ⟨r, rfl, rfl, q3, fun k a q => q4 k a ((lT_gl c g1.1).mp q)⟩
end jLvl
