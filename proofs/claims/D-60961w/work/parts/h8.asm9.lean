/-! the assembler: locals, operands of expressions *-/
section jAsm9
variable {s t u v w s1 t1 : jS} {A H b lo N k i j o c a n p X Y d e m x y J : Int} {NL : List (List Int)} {I : pI} {OL : List pvO} {SL : List pvS} {z : pvS} {q : jS × Bool × Int} {r : jS}
theorem local2 {v : Int} (h : AR s t A H b lo NL I OL SL k z) (v0 : 0 ≤ v) (v1 : v ≤ 19) (j0 : 0 ≤ j) (j1 : j < z.2.2.2.1) (hf : jf s 37 A 34 = z.2.2.1) (hl : v % 2 = 0 → ¬ jf t 1000 (H + 149) (v / 2) = -1) : syOut s t A H b lo NL I OL SL k z (m_X33_local s A (v / 2) (if v % 2 = 1 then 1 else 0) j) (m_X37_localSymbol t H v (z.2.2.1 + j)) := by
  obtain ⟨aS, aT, aI, aB, aM, aSt, aK, aH, a0⟩ := h.2.2.2.1
  obtain ⟨o1, o2, o3, o4, o5⟩ := h.op j0 j1
  rw [em_X33_local, em_X37_localSymbol]; unfold dm_X33_local dm_X37_localSymbol
  rw [jdv_in (by decide), Option.bind_some, jdv_in (by decide), Option.bind_some, I_div_n v0 (by omega) (by decide) (by decide), I_rem_n v0 (by omega) (by decide) (by decide)]
  have hd0 : 0 ≤ v / 2 := by omega
  have hd1 : v / 2 < 10 := by omega
  generalize hdd : v / 2 = d at *
  obtain ⟨l1, l2, l3⟩ := aT.2 d hd0 hd1
  by_cases c : v % 2 = 0
  · rw [if_neg (show ¬ v % 2 = 1 by omega), if_pos rfl, if_pos c, jlt_in hd0 hd1, Option.bind_some, jlt_in hd0 hd1, Option.bind_some, l1.1]
    have := hl c
    exact .inr ⟨s, t, _, rfl, rfl, h, cFa.rfl, tF.rfl, ⟨by omega, l1.2.2⟩, syU.rfl, syV.rfl, syK.rfl⟩
  rw [if_pos (show v % 2 = 1 by omega), if_neg (show ¬ (1 : Int) = 0 by decide), if_neg c, jlt_in hd0 hd1, Option.bind_some, jlt_in hd0 hd1, Option.bind_some, l2.1]
  by_cases cc : jf t 1000 (H + 150) d = -1
  rotate_left
  · rw [if_neg cc, if_neg cc, eu_X33_local_51, eu_X37_localSymbol_48]; unfold du_X33_local_51 du_X37_localSymbol_48
    rw [jlt_in hd0 hd1, Option.bind_some, jlt_in hd0 hd1, Option.bind_some, l2.1]
    exact .inr ⟨s, t, _, rfl, rfl, h, cFa.rfl, tF.rfl, ⟨by omega, l2.2.2⟩, syU.rfl, syV.rfl, syK.rfl⟩
  rw [if_pos cc, if_pos cc]
  have plc : 0 ≤ opQ1 (tO OL (z.2.2.1 + j)) 5 := o4.2.2.2.2.2.2.2
  rcases hid2 h with ⟨q, r, e1, e2, e3⟩ | ⟨e0, u, w, e1, e2, e3, e4, e5, e6, e7, e8, e9, e10⟩
  · left
    obtain ⟨r1, E1⟩ : ∃ r1, r1 = jp r 1000 (H + 150) d (-1) := ⟨_, rfl⟩
    obtain ⟨r2, E2⟩ : ∃ r2, r2 = jp r1 1000 (H + 151) d (opQ1 (tO OL (z.2.2.1 + j)) 5) := ⟨_, rfl⟩
    obtain ⟨f1, p1, -⟩ := jpF E1
    obtain ⟨f2, p2, -⟩ := jpF E2
    have e3' := e3.wr E1 (by omega)
    refine ⟨q, r2, ?_, ?_, e3'.wr E2 (by omega)⟩
    · rw [e1, Option.bind_some, e3.th]; rfl
    · obtain ⟨_, _, _, _, _, _, _, _, tf⟩ := e3'
      rw [e2, Option.bind_some]
      show (jst r 1000 (H + 150) 10 d (-1)).bind _ = _
      rw [jst_in hd0 hd1, Option.bind_some, ← E1, y_placeOf (h.2.1.keep tf) o1 o2, Option.bind_some]
      show (jst r1 1000 (H + 151) 10 d (opQ1 (tO OL (z.2.2.1 + j)) 5)).bind _ = _
      rw [jst_in hd0 hd1, Option.bind_some, ← E2, eu_X37_localSymbol_48]; unfold du_X37_localSymbol_48
      rw [jlt_in hd0 hd1, Option.bind_some, f2 _ _ _ (by omega), p1]
  right
  generalize hn : jf t 41 H 12 = n at *
  have n0 : 0 ≤ n := by have := aS.2.1; omega
  obtain ⟨u1, E1⟩ : ∃ u1, u1 = jp u 1000 (A + 16) d n := ⟨_, rfl⟩
  obtain ⟨u2, E2⟩ : ∃ u2, u2 = jp u1 1000 (A + 17) d (opQ1 (tO OL (z.2.2.1 + j)) 5) := ⟨_, rfl⟩
  obtain ⟨w1, G1⟩ : ∃ w1, w1 = jp w 1000 (H + 150) d n := ⟨_, rfl⟩
  obtain ⟨w2, G2⟩ : ∃ w2, w2 = jp w1 1000 (H + 151) d (opQ1 (tO OL (z.2.2.1 + j)) 5) := ⟨_, rfl⟩
  obtain ⟨f1, p1, -⟩ := jpF E1
  obtain ⟨f2, p2, -⟩ := jpF E2
  obtain ⟨g1, r1, -⟩ := jpF G1
  obtain ⟨g2, r2, -⟩ := jpF G2
  have fu : ∀ c a j, ¬ (c = 1000 ∧ (a = A + 16 ∨ a = A + 17) ∧ j = d) → jf u2 c a j = jf u c a j := fun c a j z => by rw [f2 _ _ _ (by omega), f1 _ _ _ (by omega)]
  have fv : ∀ c a j, ¬ (c = 1000 ∧ (a = H + 150 ∨ a = H + 151) ∧ j = d) → jf w2 c a j = jf w c a j := fun c a j z => by rw [g2 _ _ _ (by omega), g1 _ _ _ (by omega)]
  obtain ⟨bS, bT, bI, bB, bM, bSt, bK, bH, b0⟩ := e3.2.2.2.1
  have v12 : jf w2 41 H 12 = n + 1 := by rw [fv _ _ _ (by omega)]; exact e6
  have f150 : jf w2 1000 (H + 150) d = n := by rw [g2 _ _ _ (by omega)]; exact r1
  have R2 : AR u2 w2 A H b lo NL I OL SL k z := e3.mk ((cFa.rfl.wr E1 (by omega)).wr E2 (by omega)) ((tF.rfl.wr G1 (by omega)).wr G2 (by omega)) ⟨bS.cg (fun c a j _ => fu _ _ _ (by omega)) (fun c a j _ => fv _ _ _ (by omega)), ⟨fun m m0 m1 => ?_, fun m m0 m1 => ?_⟩, ⟨fun m m0 m1 m2 => ?_, fun m m0 m1 m2 => ?_, fun m e m0 m1 e0 e1 => ?_⟩, bB.cg (fun c a j _ => fu _ _ _ (by omega)) (fun c a j _ => fv _ _ _ (by omega)), bM.cg (fun c a j _ => fu _ _ _ (by omega)) (fun c a j _ => fv _ _ _ (by omega)), bSt.cg (fun c a j _ => fu _ _ _ (by omega)) (fun c a j _ => fv _ _ _ (by omega)), bK.cg (fun c a j _ => fu _ _ _ (by omega)) (fun c a j _ => fv _ _ _ (by omega)), bH.cg (fun c a j _ => fu _ _ _ (by omega)) (fun c a j _ => fv _ _ _ (by omega)) (by rw [v12, e6]; omega), by rw [fv _ _ _ (by omega)]; exact b0⟩
  · have c4u : cFa A s u2 (0 : Int) 0 := (e4.wr E1 (by omega)).wr E2 (by omega)
    refine ⟨u2, w2, n, ?_, ?_, R2, c4u, (e5.wr G1 (by omega)).wr G2 (by omega), ⟨n0, by rw [v12]; omega⟩, fun c a j z1 z2 z3 => by rw [fu _ _ _ (by omega)]; exact e10 _ _ _ (by omega) (by omega), fun c a j z1 z2 => by rw [fv _ _ _ (by omega)]; exact e9 _ _ _ (by omega) (by omega), ⟨by rw [hn, v12]; omega, fun i' i0 i1 => by rw [hn] at i1; rw [fv _ _ _ (by omega)]; exact e9 _ _ _ (by omega) (by omega)⟩⟩
    · have c1u : cFa A s u1 (0 : Int) 0 := e4.wr E1 (by omega)
      have hl := h.2.1.len o1 o2
      have fst : 0 ≤ z.2.2.1 := by have := h.op (j := 0) (by omega) (by omega); omega
      rw [e1, Option.bind_some]
      show (jth false _ _) = _
      rw [jth_ff]
      show (jst u 1000 (A + 16) 10 d n).bind _ = _
      rw [jst_in hd0 hd1, Option.bind_some, ← E1, f1 37 A 34 (by omega), e10 37 A 34 (by omega) (by omega), hf, W32_in (by omega) (by omega), c_operand (h.1.keep c1u).1 o1 o2 (by decide) (by decide) (by omega), Option.bind_some, jst_in hd0 hd1, Option.bind_some, ← E2, eu_X33_local_51]; unfold du_X33_local_51
      rw [jlt_in hd0 hd1, Option.bind_some, f2 _ _ _ (by omega), p1]
    · have t1 : tF H t w1 := e5.wr G1 (by omega)
      rw [e2, Option.bind_some]
      show (jst w 1000 (H + 150) 10 d n).bind _ = _
      rw [jst_in hd0 hd1, Option.bind_some, ← G1, y_placeOf (h.2.1.keep t1) o1 o2, Option.bind_some]
      show (jst w1 1000 (H + 151) 10 d (opQ1 (tO OL (z.2.2.1 + j)) 5)).bind _ = _
      rw [jst_in hd0 hd1, Option.bind_some, ← G2, eu_X37_localSymbol_48]; unfold du_X37_localSymbol_48
      rw [jlt_in hd0 hd1, Option.bind_some, f150]
  · rw [fu _ _ _ (by omega), fv 1000 (H + 148) m (by omega), v12]
    have := bT.1 m m0 m1
    rw [e6] at this; exact this
  · obtain ⟨k1, k2, k3⟩ := bT.2 m m0 m1
    rw [e6] at k1 k2
    rw [fu 1000 (A + 15) m (by omega), fv 1000 (H + 149) m (by omega), v12]
    refine ⟨k1, ?_⟩
    by_cases cm : m = d
    · subst cm
      rw [f150, f2 1000 (A + 16) m (by omega), p1, p2, r2]
      exact ⟨⟨rfl, by omega, by omega⟩, fun _ => ⟨rfl, plc⟩⟩
    · rw [fu 1000 (A + 16) m (by omega), fv 1000 (H + 150) m (by omega), fu 1000 (A + 17) m (by omega), fv 1000 (H + 151) m (by omega)]
      exact ⟨k2, k3⟩
  · rw [fv 1000 (H + 148) m (by omega)] at m2 ⊢
    rw [fv 1000 (H + 143) _ (by omega)]; exact bI.1 m m0 m1 m2
  · by_cases cm : m = d
    · subst cm
      rw [f150, fv 1000 (H + 143) _ (by omega), fv 1000 (H + 144) _ (by omega)]; exact ⟨e7, e8⟩
    · rw [fv 1000 (H + 150) m (by omega)] at m2 ⊢
      rw [fv 1000 (H + 143) _ (by omega), fv 1000 (H + 144) _ (by omega)]; exact bI.2.1 m m0 m1 m2
  · have old : ∀ x, 0 ≤ x → x < 10 → ¬ x = d → jf w2 1000 (H + 150) x < n := fun x x0 x1 hx => by
      rw [fv 1000 (H + 150) x (by omega), e9 _ _ _ (by omega) (by omega)]
      have := (aT.2 x x0 x1).2.1.2.2
      rw [hn] at this; exact this
    by_cases cm : m = d
    · by_cases ce : e = d
      · intro _ _; omega
      · subst cm; rw [f150]
        intro _ hh
        have := old e e0 e1 ce
        omega
    · by_cases ce : e = d
      · subst ce; rw [f150]
        intro _ hh
        have := old m m0 m1 cm
        omega
      · rw [fv 1000 (H + 150) m (by omega), fv 1000 (H + 150) e (by omega)]; exact bI.2.2 m e m0 m1 e0 e1
end jAsm9
