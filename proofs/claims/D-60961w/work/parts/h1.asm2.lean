/-! the assembler: faults, new symbols *-/
section jAsm2
variable {s t u v w s1 t1 : jS} {A H b lo N k i j o c a n p X Y X' Y' d e : Int} {f g f' g' : Int → Int → Int → Int} {NL : List (List Int)} {I : pI} {OL : List pvO} {SL : List pvS} {z : pvS} {B : Int → Prop} {q : jS × Bool × Int} {r : jS}
theorem cFa.rfl : cFa A s s 0 0 := jGw.rfl
theorem cFa.trans (h : cFa A s u X Y) (k : cFa A u w X' Y') : cFa A s w (X + X') (Y + Y') := jGw.trans h k fun _ _ z => z.elim id id
theorem cFa.wr {v2 : jS} {x : Int} (h : cFa A s u X Y) (e : v2 = jp u c a k x) (hc : A ≤ a ∧ a ≤ A + 126) : cFa A s v2 X Y := jGw_wr h e (.inl (.inl hc))
theorem aBad.after (h : aBad u v A H q r) (k : cFa A s u 0 0) (m : tF H t v) : aBad s t A H q r := by
  obtain ⟨f, p, h1, h2, h3, h4, h5, h6, h7⟩ := h
  exact ⟨f, p, h1, h2, h3, h4, h5, (k.trans h6 : cFa A s q.1 (0 + 1) (0 + 6)), m.trans h7⟩
/-- a fault is thrown, and told -/
theorem wrong2 (hB : 0 ≤ jn s ∧ jBd s 4 40) (hA : 0 ≤ A ∧ A + 127 ≤ jn s) (h0 : jf t 41 H 42 = 0) (ho : ¬ o = 0) : ∃ q r, ((m_X33_wrong s A o p).bind fun q2 => jck0 q2.2 (some (q2.1, true, q2.2))) = some q ∧ m_X37_fail_2 t H o p = some (r, 0) ∧ aBad s t A H q r := by
  obtain ⟨n0, b1, b2⟩ := hB
  obtain ⟨s1, E1⟩ : ∃ s1, s1 = jp s 37 A 37 o := ⟨_, rfl⟩
  obtain ⟨s2, E2⟩ : ∃ s2, s2 = jp s1 37 A 38 p := ⟨_, rfl⟩
  obtain ⟨t1, G1⟩ : ∃ t1, t1 = jp t 41 H 42 o := ⟨_, rfl⟩
  obtain ⟨t2, G2⟩ : ∃ t2, t2 = jp t1 41 H 43 p := ⟨_, rfl⟩
  obtain ⟨f1, p1, K1, N1, n1⟩ := jpF E1
  obtain ⟨f2, p2, K2, N2, n2⟩ := jpF E2
  obtain ⟨g1, r1, -⟩ := jpF G1
  obtain ⟨g2, r2, -⟩ := jpF G2
  have c2 : cFa A s s2 0 0 := (cFa.rfl.wr E1 (by omega)).wr E2 (by omega)
  have hx : jnx s2 2054 = some (jmk s2 2054 0 (fun _ => 0) 6, jn s2) := by
    unfold jnx; exact if_pos ⟨by have := c2.1; omega, by rw [c2.1.2.2.2.1]; have := c2.1; omega, by rw [c2.1.2.2.2.2.1]; have := c2.1; omega⟩
  have G0 : jGw s2 (jmk s2 2054 0 (fun _ => 0) 6) 1 6 (fun _ => False) := (jGw.rfl (A := fun _ => False)).mk.mono (by omega) (by omega) fun _ _ z => z
  have nm : jn s2 = jn s := n2.trans n1
  have km : jK (jmk s2 2054 0 (fun _ => 0) 6) (jn s2) = 2054 := if_pos rfl
  generalize jmk s2 2054 0 (fun _ => 0) 6 = s3 at *
  have Gm : cFa A s2 s3 1 6 := G0.mono (Int.le_refl _) (Int.le_refl _) fun _ _ z => z.elim
  refine ⟨(s3, true, jn s2), t2, ?_, ?_, o, p, ho, rfl, ⟨by show 0 ≤ jn s2; omega, km⟩, ⟨?_, ?_⟩, ⟨by rw [g2 _ _ _ (by omega)]; exact r1, r2⟩, (c2.trans Gm : cFa A s s3 (0 + 1) (0 + 6)), (tF.rfl.wr G1 (.inl (by omega))).wr G2 (.inl (by omega))⟩
  · rw [em_X33_wrong]; unfold dm_X33_wrong
    simp only [jls]
    rw [← E1, ← E2, hx, Option.bind_some, Option.bind_some, jck0_in (by show 0 ≤ jn s2; omega)]
  · rw [em_X37_fail_2]; unfold dm_X37_fail_2
    rw [if_pos h0]
    simp only [jls]
    rw [← G1, ← G2, Wz_0]
  · show jf s3 37 A 37 = o
    rw [G0.2.2 _ _ _ (by omega) (fun z => z), f2 _ _ _ (by omega)]; exact p1
  · show jf s3 37 A 38 = p
    rw [G0.2.2 _ _ _ (by omega) (fun z => z)]; exact p2
theorem AR.bd (h : AR s t A H b lo NL I OL SL k z) : (0 ≤ jn s ∧ jBd s 4 40) ∧ (0 ≤ A ∧ A + 127 ≤ jn s) ∧ jf t 41 H 42 = 0 := by
  obtain ⟨⟨-, -, -, c4, -⟩, -, hB, ⟨-, -, -, -, -, -, -, -, f0⟩, -⟩ := h
  exact ⟨⟨by omega, hB⟩, ⟨by omega, by omega⟩, f0⟩
theorem need2 (h : AR s t A H b lo NL I OL SL k z) (ho : ¬ o = 0) : ∃ q r, m_X33_need s A 0 o = some q ∧ m_X37_fail t H o = some (r, 0) ∧ aBad s t A H q r := by
  obtain ⟨b1, b2, b3⟩ := h.bd
  obtain ⟨q, r, e1, e2, e3⟩ := wrong2 (p := z.2.2.2.2.1) b1 b2 b3 ho
  obtain ⟨⟨c1, -⟩, -, -, ⟨-, -, -, -, -, -, -, ⟨⟨h1, h2⟩, -⟩, -⟩, k0, k1, kz⟩ := h
  refine ⟨q, r, ?_, ?_, e3⟩
  · rw [em_X33_need]; unfold dm_X33_need
    rw [if_pos rfl, h1, c_statement c1 k0 k1 (by decide) (by decide), Option.bind_some, kz]
    exact e1
  · rw [em_X37_fail]; unfold dm_X37_fail
    rw [h2, e2, Option.bind_some, Wz_0]
theorem need1 {x : Int} (hx : ¬ x = 0) : m_X33_need s A x o = some (s, false, 0) := by
  rw [em_X33_need]; unfold dm_X33_need
  rw [if_neg hx]
theorem needAt1 {x : Int} (hx : ¬ x = 0) : m_X33_needAt s A x o j = some (s, false, 0) := by
  rw [em_X33_needAt]; unfold dm_X33_needAt
  rw [if_neg hx]
theorem tCx.len (h : tCx t H NL I OL SL) (hj : 0 ≤ j) (hj' : j < OL.length) : (tO OL j).2.2.2.2.2.2.length ≤ 3000 := by
  obtain ⟨⟨-, -, ⟨a1, a2, a3⟩, -⟩, -⟩ := h
  have q7 := (a3 j.toNat (by omega)).2.2.2.2.2.2.2
  unfold tO
  by_cases c : (OL.getD j.toNat oZ).2.2.2.2.2.2 = []
  · rw [c]; decide
  · obtain ⟨r1, r2, -⟩ := q7 c
    omega
theorem y_placeOf (h : tCx t H NL I OL SL) (hj : 0 ≤ j) (hj' : j < OL.length) : m_X37_placeOf t H j = some (t, opQ1 (tO OL j) 5) := by
  rw [em_X37_placeOf]; unfold dm_X37_placeOf
  rw [y_operand h.1 hj hj' (by decide) (by decide), Option.bind_some]
/-- operands of the statement are there -/
theorem AR.op (h : AR s t A H b lo NL I OL SL k z) (h0 : 0 ≤ j) (h1 : j < z.2.2.2.1) : 0 ≤ z.2.2.1 + j ∧ z.2.2.1 + j < OL.length ∧ z.2.2.1 + j < 800 ∧ opGd I (tO OL (z.2.2.1 + j)) ∧ OL.length ≤ 800 := by
  obtain ⟨⟨⟨-, -, -, -, ⟨-, o2, -⟩, -⟩, -, -, -, -, ⟨-, -, g3, g4⟩⟩, -, -, -, k0, k1, kz⟩ := h
  have gz : stGd NL.length OL.length z := by
    rw [← kz]; unfold tS
    refine g4 _ ?_
    rw [List.getD_eq_getElem?_getD, List.getElem?_eq_getElem (by omega)]
    exact List.getElem_mem _
  obtain ⟨-, -, -, s4, s5, s6⟩ := gz
  refine ⟨by omega, by omega, by omega, ?_, o2⟩
  unfold tO
  refine g3 _ ?_
  rw [List.getD_eq_getElem?_getD, List.getElem?_eq_getElem (by omega)]
  exact List.getElem_mem _
theorem needAt2 (h : AR s t A H b lo NL I OL SL k z) (ho : ¬ o = 0) (h0 : 0 ≤ j) (h1 : j < z.2.2.2.1) (hf : jf s 37 A 34 = z.2.2.1) : ∃ q r, m_X33_needAt s A 0 o j = some q ∧ m_X37_fail_2 t H o (opQ1 (tO OL (z.2.2.1 + j)) 5) = some (r, 0) ∧ aBad s t A H q r := by
  obtain ⟨b1, b2, b3⟩ := h.bd
  obtain ⟨o1, o2, o3, o4, o5⟩ := h.op h0 h1
  obtain ⟨q, r, e1, e2, e3⟩ := wrong2 (p := opQ1 (tO OL (z.2.2.1 + j)) 5) b1 b2 b3 ho
  have hl := h.2.1.len o1 o2
  refine ⟨q, r, ?_, e2, e3⟩
  rw [em_X33_needAt]; unfold dm_X33_needAt
  have gz := h.2.2.2.2
  have hst : 0 ≤ z.2.2.1 := by
    obtain ⟨⟨-, -, -, -, -, ⟨-, -, g3, g4⟩⟩, -, -, -, k0, k1, kz⟩ := h
    have gz : stGd NL.length OL.length z := by
      rw [← kz]; unfold tS
      refine g4 _ ?_
      rw [List.getD_eq_getElem?_getD, List.getElem?_eq_getElem (by omega)]
      exact List.getElem_mem _
    exact gz.2.2.2.1
  rw [if_pos rfl, hf, W32_in (by omega) (by omega), c_operand h.1.1 o1 o2 (by decide) (by decide) (by omega), Option.bind_some]
  exact e1
end jAsm2
