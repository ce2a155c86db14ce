/-! writing an image: the twin's answer about what is wrong; numbers put -/
section jSwrite
variable {s t u w : jS} {X n p f a b x y e k v z m d : Int} {g g' : Int → Int} {i : Int → Int → Int → Int}
theorem tIm.at0 (h : tIm t X 0 i) (x0 : 0 ≤ x) (x1 : x < 3) : jf t 1002 (X + 1) x = i 1 x 0 ∧ (¬ i 1 x 0 = 0 → jf t 1000 (X + 2) x = i 1 x 1 ∧ jf t 1000 (X + 4) x = i 1 x 2 ∧ jf t 1000 (X + 3) x = i 1 x 3 ∧ ∀ k, 0 ≤ k → k < i 1 x 2 → jf t 1000 (X + 5) (4096 * x + k) = i 0 x k) := by
  have := h.1 x x0 x1
  unfold tSg at this
  rw [show 3 * (0 : Int) + x = x by omega] at this
  exact this
theorem tIm.mk0 (h : tIm t X 0 i) (k0 : 0 ≤ k) (k1 : k < 2048) : jf t 1002 (X + 6) k = i 3 k 0 := by
  have := h.2.2.2 k k0 k1
  rwa [show 2048 * (0 : Int) + k = k by omega] at this
theorem s_end (h : tIm t X 0 i) (vi : vIm i) (x0 : 0 ≤ x) (x1 : x < 3) (c : ¬ i 1 x 0 = 0) : m_X42_endOf t X x = some (enI i x) := by
  obtain ⟨a1, a2, a3, -⟩ := (h.at0 x0 x1).2 c
  have := (vi.1 x x0 x1).2 c
  rw [e_X42_endOf _ _ _ ⟨x0, by omega⟩, a1, a2, a3, W32_in (z := i 1 x 1 + i 1 x 2) (by omega) (by omega), W32_in (by omega) (by omega)]; rfl
theorem s_meets (h : tIm t X 0 i) (vi : vIm i) (x0 : 0 ≤ x) (x1 : x < 3) (y0 : 0 ≤ y) (y1 : y < 3) : ∃ r, m_X42_meets t X x y = some r ∧ (r = 1 ∧ mI i x y ∨ r = 0 ∧ ¬ mI i x y) := by
  have hx := h.at0 x0 x1
  have hy := h.at0 y0 y1
  rw [em_X42_meets]; unfold dm_X42_meets mI
  rw [jlt_in x0 (by omega), Option.bind_some, hx.1, Wz_0, Wz_1]
  by_cases c1 : i 1 x 0 = 0
  · rw [if_pos c1]; exact ⟨0, rfl, .inr ⟨rfl, fun q => q.1 c1⟩⟩
  rw [if_neg c1, jlt_in y0 (by omega), Option.bind_some, hy.1]
  by_cases c2 : i 1 y 0 = 0
  · rw [if_pos c2]; exact ⟨0, rfl, .inr ⟨rfl, fun q => q.2.1 c2⟩⟩
  obtain ⟨a1, -⟩ := hx.2 c1
  obtain ⟨b1, -⟩ := hy.2 c2
  rw [if_neg c2, jlt_in x0 (by omega), Option.bind_some, s_end h vi y0 y1 c2, Option.bind_some, a1]
  by_cases c3 : i 1 x 1 < enI i y
  · rw [if_pos c3, jlt_in y0 (by omega), Option.bind_some, s_end h vi x0 x1 c1, Option.bind_some, b1]
    by_cases c4 : i 1 y 1 < enI i x
    · rw [if_pos c4, Option.bind_some, Option.bind_some]
      by_cases c5 : i 1 x 1 < enI i x
      · rw [if_pos c5, Option.bind_some, Option.bind_some]
        by_cases c6 : i 1 y 1 < enI i y
        · rw [if_pos c6]; exact ⟨1, rfl, .inl ⟨rfl, c1, c2, c3, c4, c5, c6⟩⟩
        · rw [if_neg c6]; exact ⟨0, rfl, .inr ⟨rfl, fun q => c6 q.2.2.2.2.2⟩⟩
      · rw [if_neg c5]; exact ⟨0, rfl, .inr ⟨rfl, fun q => c5 q.2.2.2.2.1⟩⟩
    · rw [if_neg c4]; exact ⟨0, rfl, .inr ⟨rfl, fun q => c4 q.2.2.2.1⟩⟩
  · rw [if_neg c3]; exact ⟨0, rfl, .inr ⟨rfl, fun q => c3 q.2.2.1⟩⟩
theorem s_mkSize (h : tIm t X 0 i) (c : ¬ i 1 0 0 = 0) (k0 : 0 ≤ k) (k1 : 2 * k < i 1 0 2) (hs : i 1 0 2 ≤ 4096) : m_X42_sizeOfMark t X 0 k = some (if shI i k = true then 2 else 4) := by
  obtain ⟨a1, a2, a3, a4⟩ := (h.at0 (x := 0) (by omega) (by omega)).2 c
  have := a4 (2 * k) (by omega) k1
  rw [show 4096 * (0 : Int) + 2 * k = 2 * k by omega] at this
  have e : W32 (W32 (12288 * (0 : Int)) + W32 (2 * k)) = 2 * k := by rw [W32_in (z := 12288 * (0 : Int)) (by omega) (by omega), W32_in (z := 2 * k) (by omega) (by omega), W32_in (by omega) (by omega)]; omega
  rw [e_X42_sizeOfMark _ _ _ _ (by rw [e]; omega), e, this, I_and_3]
  unfold shI
  by_cases q : i 0 0 (2 * k) % 4 = 3
  · rw [if_neg (fun z => z q), if_neg (by simp [q])]
  · rw [if_pos q, if_pos (by simp [q])]
theorem s_bad (h : tIm t X 0 i) (vi : vIm i) : ∃ r, m_X42_bad t X 0 = some r ∧ wcI i r := by
  have h0 := h.at0 (x := 0) (by omega) (by omega)
  have hent := jin_p.mp vi.2.1
  rw [em_X42_bad]; unfold dm_X42_bad
  simp only [jlet]
  rw [show W32 (3 * 0) = 0 from W32_in (by omega) (by omega), jlt_in (by omega) (by omega), Option.bind_some, h0.1]
  by_cases c1 : i 1 0 0 = 0
  · rw [if_pos c1]; exact ⟨1, rfl, .inl ⟨fun q => q.1 c1, rfl⟩⟩
  obtain ⟨a1, a2, a3, a4⟩ := h0.2 c1
  have vv := (vi.1 0 (by omega) (by omega)).2 c1
  rw [if_neg c1, jlt_in (by omega) (by omega), Option.bind_some, a2]
  by_cases c2 : i 1 0 2 = 0
  · rw [if_pos c2]; exact ⟨1, rfl, .inl ⟨fun q => by have := q.2.1; omega, rfl⟩⟩
  rw [if_neg c2, Option.bind_some, jdv_in (by decide), Option.bind_some, I_rem_n (by omega) (by omega) (by omega) (by omega)]
  by_cases c3 : i 1 0 2 % 2 = 0
  rotate_left
  · rw [if_neg c3]; exact ⟨1, rfl, .inl ⟨fun q => c3 q.2.2, rfl⟩⟩
  have HT : hT i := ⟨c1, by omega, c3⟩
  rw [if_pos c3, eu_X42_bad_37]; unfold du_X42_bad_37
  have e65 : ∀ x, 0 ≤ x → x < 3 → u_X42_bad_65 t X 0 0 x = some (.inl [X, 0, 0, x + 1]) := fun x x0 x1 => by
    rw [eu_X42_bad_65]; unfold du_X42_bad_65
    rw [W32_in (by omega) (by omega)]
  rcases jseekR (R := Int) (C := jc4 b_X42_bad_37) (s := t) (fun x => [X, 0, 0, x]) (fun x => ¬ wI i x) (fun _ => some 2) (u_X42_bad_71 t X 0 0) 0 3 (by omega) (fun x x0 x1 hx => by
      show b_X42_bad_37 t X 0 0 x = _
      unfold b_X42_bad_37
      have hx := Classical.not_not.mp hx
      rw [show W32 (0 + 3) = 3 from W32_in (by omega) (by omega), if_pos x1, jlt_in x0 (by omega), Option.bind_some, (h.at0 x0 x1).1, e65 x x0 x1]
      by_cases c : i 1 x 0 = 0
      · rw [if_pos c]
      · rw [if_neg c, s_end h vi x0 x1 c, Option.bind_some, if_neg (by have := hx.resolve_left c; omega)]) (fun x x0 x1 hx => by
      show b_X42_bad_37 t X 0 0 x = _
      unfold b_X42_bad_37
      have c : ¬ i 1 x 0 = 0 := fun q => hx (.inl q)
      rw [show W32 (0 + 3) = 3 from W32_in (by omega) (by omega), if_pos x1, jlt_in x0 (by omega), Option.bind_some, (h.at0 x0 x1).1, if_neg c, s_end h vi x0 x1 c, Option.bind_some, if_pos (Classical.byContradiction fun q => hx (.inr (by omega)))]) (by
      show b_X42_bad_37 t X 0 0 3 = _
      unfold b_X42_bad_37
      rw [show W32 (0 + 3) = 3 from W32_in (by omega) (by omega), if_neg (by omega)]) with ⟨x, x0, x1, x2, -, ex⟩ | ⟨x2, ex⟩
  · rw [ex]; exact ⟨2, rfl, .inr (.inl ⟨HT, ⟨x, x0, x1, x2⟩, rfl⟩)⟩
  have HW : ∀ x, 0 ≤ x → x < 3 → wI i x := fun x x0 x1 => Classical.not_not.mp (x2 x x0 x1)
  rw [ex, eu_X42_bad_71]; unfold du_X42_bad_71
  rw [show W32 (0 + 1) = 1 from W32_in (by omega) (by omega), show W32 (0 + 2) = 2 from W32_in (by omega) (by omega)]
  obtain ⟨r1, e1, h1⟩ := s_meets h vi (x := 0) (y := 1) (by omega) (by omega) (by omega) (by omega)
  obtain ⟨r2, e2, h2⟩ := s_meets h vi (x := 0) (y := 2) (by omega) (by omega) (by omega) (by omega)
  obtain ⟨r3, e3, h3⟩ := s_meets h vi (x := 1) (y := 2) (by omega) (by omega) (by omega) (by omega)
  rw [e1, Option.bind_some, e2, Option.bind_some, e3, Option.bind_some]
  rcases h1 with ⟨z1, y1⟩ | ⟨z1, y1⟩
  · rw [if_neg (by omega)]; exact ⟨3, rfl, .inr (.inr (.inl ⟨HT, HW, .inl y1, rfl⟩))⟩
  rw [if_pos z1]
  rcases h2 with ⟨z2, y2⟩ | ⟨z2, y2⟩
  · rw [if_neg (by omega)]; exact ⟨3, rfl, .inr (.inr (.inl ⟨HT, HW, .inr (.inl y2), rfl⟩))⟩
  rw [if_pos z2]
  rcases h3 with ⟨z3, y3⟩ | ⟨z3, y3⟩
  · rw [if_neg (by omega)]; exact ⟨3, rfl, .inr (.inr (.inl ⟨HT, HW, .inr (.inr y3), rfl⟩))⟩
  rw [if_pos z3, em_X42_wrongMark]; unfold dm_X42_wrongMark
  rw [eu_X42_wrongMark_2]; unfold du_X42_wrongMark_2
  have e35 : ∀ k, 0 ≤ k → k < 2048 → u_X42_wrongMark_35 t X 0 k = some (.inl [X, 0, k + 1]) := fun k k0 k1 => by
    rw [eu_X42_wrongMark_35]; unfold du_X42_wrongMark_35
    rw [W32_in (by omega) (by omega)]
  have right : ∀ k, 0 ≤ k → k < 2048 → ¬ i 3 k 0 = 0 → ∃ r, m_X42_isRight t X 0 k = some r ∧ (r = 1 ∧ gmI i k ∨ r = 0 ∧ ¬ gmI i k) := fun k k0 k1 hk => by
    rw [em_X42_isRight]; unfold dm_X42_isRight gmI
    rw [show W32 (3 * 0) = 0 from W32_in (by omega) (by omega), jlt_in (by omega) (by omega), Option.bind_some, a2, W32_in (z := 2 * k) (by omega) (by omega), Wz_0, Wz_1]
    by_cases q1 : 2 * k < i 1 0 2
    rotate_left
    · rw [if_neg q1]; exact ⟨0, rfl, .inr ⟨rfl, fun z => z.elim hk fun z => by omega⟩⟩
    rw [if_pos q1, s_mkSize h c1 k0 q1 vv.2.2.2.1, Option.bind_some]
    by_cases q2 : shI i k = true
    · rw [if_pos q2, W32_in (by omega) (by omega), if_neg (by omega), if_pos rfl]; exact ⟨1, rfl, .inl ⟨rfl, .inr ⟨by omega, .inl q2⟩⟩⟩
    · rw [if_neg q2, W32_in (by omega) (by omega)]
      by_cases q3 : i 1 0 2 < 2 * k + 4
      · rw [if_pos q3]; exact ⟨0, rfl, .inr ⟨rfl, fun z => z.elim hk fun z => z.2.elim q2 fun z => by omega⟩⟩
      · have e9 : W32 (W32 (W32 (2048 * (0 : Int)) + k) + 1) = k + 1 := by rw [W32_in (z := 2048 * (0 : Int)) (by omega) (by omega), W32_in (z := 2048 * 0 + k) (by omega) (by omega), W32_in (by omega) (by omega)]; omega
        rw [if_neg q3, if_neg (by decide), W32_in (z := 2 * k + 2) (by omega) (by omega), if_pos (by omega), e9, jlt_in (by omega) (by omega), Option.bind_some, h.mk0 (by omega) (by omega)]
        by_cases q4 : i 3 (k + 1) 0 = 0
        · rw [if_pos q4]; exact ⟨1, rfl, .inl ⟨rfl, .inr ⟨by omega, .inr ⟨by omega, q4⟩⟩⟩⟩
        · rw [if_neg q4]; exact ⟨0, rfl, .inr ⟨rfl, fun z => z.elim hk fun z => z.2.elim q2 fun z => q4 z.2⟩⟩
  have e8 : ∀ k, 0 ≤ k → k < 2048 → W32 (W32 (2048 * (0 : Int)) + k) = k := fun k k0 k1 => by rw [W32_in (z := 2048 * (0 : Int)) (by omega) (by omega), W32_in (by omega) (by omega)]; omega
  rcases jseekR (R := Int) (C := jc3 b_X42_wrongMark_2) (s := t) (fun k => [X, 0, k]) (fun k => ¬ gmI i k) (fun k => some k) (some (-1)) 0 2048 (by omega) (fun k k0 k1 hk => by
      show b_X42_wrongMark_2 t X 0 k = _
      unfold b_X42_wrongMark_2
      have hk := Classical.not_not.mp hk
      rw [if_pos k1, e8 k k0 k1, jlt_in k0 (by omega), Option.bind_some, h.mk0 k0 k1, e35 k k0 k1]
      by_cases c : i 3 k 0 = 0
      · rw [if_pos c]
      · obtain ⟨r, er, hr⟩ := right k k0 k1 c
        rw [if_neg c, er, Option.bind_some]
        rcases hr with ⟨hr, -⟩ | ⟨-, hr⟩
        · rw [if_neg (by omega)]
        · exact absurd hk hr) (fun k k0 k1 hk => by
      show b_X42_wrongMark_2 t X 0 k = _
      unfold b_X42_wrongMark_2
      have c : ¬ i 3 k 0 = 0 := fun q => hk (.inl q)
      obtain ⟨r, er, hr⟩ := right k k0 k1 c
      rw [if_pos k1, e8 k k0 k1, jlt_in k0 (by omega), Option.bind_some, h.mk0 k0 k1, if_neg c, er, Option.bind_some]
      rcases hr with ⟨-, hr⟩ | ⟨hr, -⟩
      · exact absurd hr hk
      · rw [if_pos hr]) (by
      show b_X42_wrongMark_2 t X 0 2048 = _
      unfold b_X42_wrongMark_2
      rw [if_neg (by omega)]) with ⟨k, k0, k1, k2, -, ek⟩ | ⟨k2, ek⟩
  · rw [ek, Option.bind_some, if_neg (by omega)]
    exact ⟨4, rfl, .inr (.inr (.inr ⟨HT, HW, ⟨y1, y2, y3⟩, .inl ⟨⟨k, k0, k1, k2⟩, rfl⟩⟩))⟩
  have GM : ∀ k, 0 ≤ k → k < 2048 → gmI i k := fun k k0 k1 => Classical.not_not.mp (k2 k k0 k1)
  rw [ek, Option.bind_some, if_pos rfl, jlt_in (by omega) (by omega), Option.bind_some, h.2.1, em_X42_isMarkAt]; unfold dm_X42_isMarkAt
  rw [show W32 (3 * 0) = 0 from W32_in (by omega) (by omega), jlt_in (by omega) (by omega), Option.bind_some, a1]
  simp only [jlet]
  rw [jlt_in (by omega) (by omega), Option.bind_some, h0.1, if_neg c1, Option.bind_some, Wz_0, Wz_1]
  have no : ¬ isMk i (i 2 0 0) → ∃ r, (some 5 : Option Int) = some r ∧ wcI i r := fun q => ⟨5, rfl, .inr (.inr (.inr ⟨HT, HW, ⟨y1, y2, y3⟩, .inr ⟨GM, .inl ⟨q, rfl⟩⟩⟩))⟩
  by_cases q1 : i 2 0 0 < i 1 0 1
  · rw [if_pos q1, Option.bind_some, if_pos rfl]; exact no fun z => by have := z.1; omega
  rw [if_neg q1, W32_in (z := i 2 0 0 - i 1 0 1) (by omega) (by omega)]
  by_cases q2 : i 2 0 0 - i 1 0 1 < 4096
  rotate_left
  · rw [if_neg q2, Option.bind_some, if_pos rfl]; exact no fun z => by have := z.2.1; omega
  rw [if_pos q2, jdv_in (by decide), Option.bind_some, I_rem_n (by omega) (by omega) (by omega) (by omega)]
  by_cases q3 : (i 2 0 0 - i 1 0 1) % 2 = 0
  rotate_left
  · rw [if_neg q3, Option.bind_some, if_pos rfl]; exact no fun z => q3 z.2.2.1
  rw [if_pos q3, jdv_in (by decide), Option.bind_some, I_div_n (by omega) (by omega) (by omega) (by omega), e8 _ (by omega) (by omega), jlt_in (by omega) (by omega), Option.bind_some, h.mk0 (by omega) (by omega)]
  by_cases q4 : i 3 ((i 2 0 0 - i 1 0 1) / 2) 0 = 0
  · rw [if_pos q4, Option.bind_some, if_pos rfl]; exact no fun z => z.2.2.2 q4
  · rw [if_neg q4, Option.bind_some, if_neg (by decide)]
    have := (GM _ (show 0 ≤ (i 2 0 0 - i 1 0 1) / 2 by omega) (by omega)).resolve_left q4
    exact ⟨0, rfl, .inr (.inr (.inr ⟨HT, HW, ⟨y1, y2, y3⟩, .inr ⟨GM, .inr ⟨⟨by omega, by omega, q3, q4⟩, rfl⟩⟩⟩))⟩
end jSwrite
