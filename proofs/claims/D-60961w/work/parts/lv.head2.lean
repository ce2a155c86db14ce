/-! the linker: the head of a relocation, each side *-/
set_option maxRecDepth 100000
section jLhe
variable {s t u w s' t' : jS} {a b k m n o p q v l x c f g i j A H C K S X P Q rr n' : Int} {O : Int → Int → Int → Int → Int} {d e z y : Int → Int → Int} {G : Int → Int}
/-- what the component does by a relocation's kind -/
noncomputable def relK (s : jS) (x0 x1 x3 v15 : Int) : Option (jS × Bool × Int) :=
    if v15 = 16 then
      u_X35_relocate_400 s x0 x1
    else
    if v15 = 17 then
      u_X35_relocate_400 s x0 x1
    else
    if v15 = 18 then
      u_X35_relocate_471 s x0 x1 x3
    else
    if v15 = 19 then
      (m_X35_call s x0).bind fun q16 =>
      jth q16.2.1 (some (q16.1, true, q16.2.2)) <|
      some (q16.1, false, 0)
    else
    if v15 = 20 then
      u_X35_relocate_471 s x0 x1 x3
    else
    if v15 = 21 then
      u_X35_relocate_471 s x0 x1 x3
    else
    if v15 = 22 then
      u_X35_relocate_471 s x0 x1 x3
    else
    if v15 = 23 then
      (m_X35_near s x0).bind fun q17 =>
      jth q17.2.1 (some (q17.1, true, q17.2.2)) <|
      some (q17.1, false, 0)
    else
    if v15 = 24 then
      u_X35_relocate_462 s x0 x1
    else
    if v15 = 25 then
      u_X35_relocate_462 s x0 x1
    else
    if v15 = 26 then
      (m_X35_upper s x0).bind fun q18 =>
      jth q18.2.1 (some (q18.1, true, q18.2.2)) <|
      some (q18.1, false, 0)
    else
    if v15 = 27 then
      u_X35_relocate_453 s x0 x1
    else
    if v15 = 28 then
      u_X35_relocate_453 s x0 x1
    else
    if v15 = 29 then
      u_X35_relocate_471 s x0 x1 x3
    else
    if v15 = 30 then
      u_X35_relocate_471 s x0 x1 x3
    else
    if v15 = 31 then
      u_X35_relocate_471 s x0 x1 x3
    else
    if v15 = 32 then
      u_X35_relocate_471 s x0 x1 x3
    else
    if v15 = 33 then
      u_X35_relocate_471 s x0 x1 x3
    else
    if v15 = 34 then
      u_X35_relocate_471 s x0 x1 x3
    else
    if v15 = 35 then
      u_X35_relocate_471 s x0 x1 x3
    else
    if v15 = 36 then
      u_X35_relocate_471 s x0 x1 x3
    else
    if v15 = 37 then
      u_X35_relocate_471 s x0 x1 x3
    else
    if v15 = 38 then
      u_X35_relocate_471 s x0 x1 x3
    else
    if v15 = 39 then
      u_X35_relocate_471 s x0 x1 x3
    else
    if v15 = 40 then
      u_X35_relocate_471 s x0 x1 x3
    else
    if v15 = 41 then
      u_X35_relocate_471 s x0 x1 x3
    else
    if v15 = 42 then
      u_X35_relocate_471 s x0 x1 x3
    else
    if v15 = 43 then
      u_X35_relocate_471 s x0 x1 x3
    else
    if v15 = 44 then
      u_X35_relocate_419 s x0 x1
    else
    if v15 = 45 then
      u_X35_relocate_419 s x0 x1
    else
    u_X35_relocate_471 s x0 x1 x3
/-- from its place on -/
noncomputable def relT (s5 : jS) (x0 x1 x2 x3 : Int) : Option (jS × Bool × Int) :=
  (jrd s5 22 x1 2).bind fun v6 =>
  if v6 = 43 then
    (jix 3 x3 ((x0 + 33) + 1 + 1 * x3)).bind fun v7 =>
    (m_X35_nothing s5 x0 v7 (jf s5 39 x0 38) x2).bind fun q8 =>
    some (q8.1, false, 0)
  else
    (jrd s5 22 x1 4).bind fun v9 =>
    jls (jp s5 39 x0 39 v9) fun s10 =>
    (jrd s10 22 x1 3).bind fun v11 =>
    (m_X35_valueOf s10 x0 (jf s10 39 x0 35) v11).bind fun q12 =>
    (jrd q12.1 22 x1 4).bind fun v13 =>
    jls (jp q12.1 39 x0 40 (W64 (q12.2 + v13))) fun s14 =>
    (jrd s14 22 x1 2).bind fun v15 =>
    relK s14 x0 x1 x3 v15
/-- a relocation of a unit, as both have it -/
theorem rlS.rl (h : rlS C H S O s t e d z G) (x0 : 0 ≤ x) (x1 : x < 6) (hS : sIn S x) (j0 : 0 ≤ j) (j1 : j < O x 2 2 0) : (0 ≤ rlA (fAt C x + 614) j ∧ jK s (rlA (fAt C x + 614) j) = 22) ∧ cRl s (rlA (fAt C x + 614) j) (O x 5 j) ∧ tUn t H x (O x) ∧ vOb (O x) ∧ gOb (O x) ∧ j < 300 := by
  obtain ⟨hO, hu, v, g⟩ := h.1.2.2.2.2.2.1.1.2.2.1 x x0 x1 hS
  have hT := (T33 (h.1.2.2.2.2.2.1.1.2.2.2.1 x x0 x1)).2.2.1
  obtain ⟨r0, -, rl, -⟩ := c_rel hO hT v j0 j1
  have := v.2.2.1.2.2.2.2.2
  exact ⟨r0, rl, hu, v, g, by omega⟩
theorem t_needed (hu : tUn t H x (O x)) (v : vOb (O x)) (x0 : 0 ≤ x) (x1 : x < 6) (j0 : 0 ≤ j) (j1 : j < O x 2 2 0) (h51 : ¬ O x 5 j 2 = 51) : m_X37_needed t H (300 * x + j) = some (kW (O x 5 j 2) (O x 5 j 4)) := by
  obtain ⟨-, -, t2, -, t4⟩ := t_relr hu j0 j1
  have n3 := v.2.2.1.2.2.2.2.2
  have J186 : jlt t 1000 (H + 186) 1800 (300 * x + j) = some (O x 5 j 2) := by rw [jlt_in (by omega) (by omega), t2]
  have J188 : jlt t 1000 (H + 188) 1800 (300 * x + j) = some (O x 5 j 4) := by rw [jlt_in (by omega) (by omega), t4]
  have kk := (v.2.2.2.2.2 j j0 j1).2.2.2.2.1
  rw [em_X37_needed]; unfold dm_X37_needed
  rw [J186, J188, Option.bind_some]
  generalize hk : O x 5 j 2 = kd at *
  generalize ha : O x 5 j 4 = ad at *
  have : kd = 1 ∨ kd = 16 ∨ kd = 17 ∨ kd = 19 ∨ kd = 23 ∨ kd = 24 ∨ kd = 25 ∨ kd = 26 ∨ kd = 27 ∨ kd = 28 ∨ kd = 33 ∨ kd = 34 ∨ kd = 35 ∨ kd = 37 ∨ kd = 38 ∨ kd = 39 ∨ kd = 43 ∨ kd = 44 ∨ kd = 45 := by unfold kOK at kk; omega
  clear kk
  rcases this with rfl | rfl | rfl | rfl | rfl | rfl | rfl | rfl | rfl | rfl | rfl | rfl | rfl | rfl | rfl | rfl | rfl | rfl | rfl <;> simp [kW]
/-- the piece that a place lies in, and whether it is the relocation's own -/
theorem x_own (h : rlS C H S O s t e d z G) (x0 : 0 ≤ x) (x1 : x < 6) (hS : sIn S x) (j0 : 0 ≤ j) (j1 : j < O x 2 2 0) : ∃ k, (0 ≤ k ∧ k < d 0 1) ∧ pcA d z (4 * nIn S x.toNat + O x 5 j 0) (O x 5 j 1) k ∧ d 11 k = 4 * nIn S x.toNat + O x 5 j 0 ∧ d 1 (d 11 k) = O x 5 j 0 ∧ m_X35_pieceAt s (C + 4275) (4 * nIn S x.toNat + O x 5 j 0) (O x 5 j 1) = some k ∧ m_X37_pieceAt t H (4 * nIn S x.toNat + O x 5 j 0) (O x 5 j 1) = some k ∧ jf s 1000 (C + 4275 + 27) k = (if z 2 k = -1 then -1 else z 2 k % 300) ∧ (jf t 1000 (H + 203) (300 * x + j) = if z 2 k = 300 * x + j then k else -1) ∧ (z 2 k = 300 * x + j ↔ O x 5 j 0 = 0 ∧ (if z 2 k = -1 then -1 else z 2 k % 300) = j) ∧ (z 2 k = 300 * x + j → tkP (O x) j ∧ O x 5 j 1 = z 0 k ∧ z 1 k = kW (O x 5 j 2) (O x 5 j 4) ∧ d 5 k = srT (O x 5 j 2) ∧ z 3 k = x) ∧ (∀ k', 0 ≤ k' → k' < d 0 1 → z 2 k' = 300 * x + j → k' = k) := by
  obtain ⟨hz, -⟩ := id h
  obtain ⟨v, -, -, ⟨p1, p2⟩, ⟨r1, -, r3⟩, ⟨hk, -⟩, -⟩ := id hz
  obtain ⟨hO, hu, vo, g⟩ := hk.2.2.1 x x0 x1 hS
  obtain ⟨l0, l1, l2, l3, l4⟩ := rel_lo vo g j0 j1
  have n3 := vo.2.2.1.2.2.2.2.2
  obtain ⟨⟨q1, q2, q3⟩, q4⟩ := r1.1 x (O x 5 j 0) x0 x1 hS l0.1 (by omega)
  have hI := r1.2.2
  have nx := nIn_lo (S := S) x.toNat
  have v1 := v.2.1
  obtain ⟨k, e1, a1⟩ := c_pieceAt p1 q3 v (by omega) q4 l1
  obtain ⟨k2, e2, a2⟩ := t_pieceAt p2 q3 v hI (by omega) q4 l1
  have := pcA.one q3 a1 a2
  subst this
  obtain ⟨-, -, ⟨d1, d2, d3⟩, -⟩ := v.2.2.2.2.1 _ (by omega) q4
  have hkk : 0 ≤ k ∧ k < d 0 1 := by have := a1.1; omega
  have e11 := v.pt (by omega) q4 a1.1.1 a1.1.2
  have eo : d 1 (d 11 k) = O x 5 j 0 := by rw [e11]; exact q2
  -- what an own piece is
  have own : ∀ k', 0 ≤ k' → k' < d 0 1 → z 2 k' = 300 * x + j → (tkP (O x) j ∧ O x 5 j 1 = z 0 k' ∧ z 1 k' = kW (O x 5 j 2) (O x 5 j 4) ∧ d 5 k' = srT (O x 5 j 2) ∧ z 3 k' = x) ∧ k' = k := fun k' k0 k1 hz2 => by
    rcases (hI k' k0 k1).2 with ⟨q, -⟩ | ⟨z3, i, ⟨i0, i1, i2⟩, q5, tk, q6, q7, q8, -⟩
    · omega
    · have ex : z 3 k' = x := by omega
      have ei : i = j := by omega
      rw [ei, ex] at tk q6 q7 q8
      have k5 : ¬ d 5 k' = 0 := by
        rw [q8]; unfold srT
        split
        · decide
        split
        · decide
        split <;> decide
      obtain ⟨u1, u2, u3⟩ := (r3 k' k0 k1).1 k5
      rw [ex] at u2
      refine ⟨⟨tk, q6.symm, q7, q8, ex⟩, ?_⟩
      have s0 : O x 5 j 0 = 0 := tk.1
      rw [s0, Int.add_zero] at a1 q3
      obtain ⟨-, ⟨g1, g2, g3, g4⟩, -⟩ := v.2.2.2.2.2.2.1 k' k0 k1
      rw [u2] at g3 g4
      refine pcA.one q3 (i := O x 5 j 1) ⟨⟨g3, g4⟩, by omega, fun hl => ?_⟩ a1
      have := (q3.2.2.1 k' g3 hl)
      omega
  refine ⟨k, hkk, a1, e11, eo, e1, e2, (p1.2.1 k hkk.1 hkk.2).2.2.1, ?_, ⟨fun hz2 => ?_, fun ⟨s0, hz2⟩ => ?_⟩, fun hz2 => (own k hkk.1 hkk.2 hz2).1, fun k' k0 k1 hz2 => (own k' k0 k1 hz2).2⟩
  · by_cases c : z 2 k = 300 * x + j
    · rw [if_pos c]
      rcases p2.2.2.1 k hkk.1 hkk.2 with q | ⟨-, q⟩
      · omega
      · rw [← c]; exact q
    · rw [if_neg c]
      refine p2.2.2.2 _ (by omega) (by omega) fun k' k0 k1 q => c ?_
      rw [← (own k' k0 k1 q).2]; exact q
  · have := (own k hkk.1 hkk.2 hz2).1
    exact ⟨this.1.1, by rw [if_neg (by omega)]; omega⟩
  · rcases (hI k hkk.1 hkk.2).2 with ⟨q, -⟩ | ⟨z3, i, ⟨i0, i1, i2⟩, q5, tk, q6, q7, q8, -⟩
    · rw [if_pos q] at hz2; omega
    · rw [if_neg (by omega)] at hz2
      have k5 : ¬ d 5 k = 0 := by
        rw [q8]; unfold srT
        split
        · decide
        split
        · decide
        split <;> decide
      obtain ⟨u1, u2, u3⟩ := (r3 k hkk.1 hkk.2).1 k5
      have ex : z 3 k = x := nIn_inj u3 hS z3.1 x0 (by omega)
      omega
end jLhe
