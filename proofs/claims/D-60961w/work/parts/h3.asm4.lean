/-! the assembler: names' symbols, hidden ones, definitions *-/
section jAsm4
variable {s t u v w s1 t1 : jS} {A H b lo N k i j o c a n p X Y X' Y' d e m x y : Int} {f g f' g' : Int → Int → Int → Int} {NL : List (List Int)} {I : pI} {OL : List pvO} {SL : List pvS} {z : pvS} {B : Int → Prop} {q : jS × Bool × Int} {r : jS}
/-- what symbols change *-/
def syU (A : Int) (s u : jS) : Prop := ∀ c a j, ¬ (c = 37 ∧ a = A ∧ (j = 25 ∨ j = 26 ∨ j = 31)) → ¬ (c = 38) → ¬ (c = 1000 ∧ (a = A + 2 ∨ a = A + 16 ∨ a = A + 17)) → jf u c a j = jf s c a j
def syV (H : Int) (t v : jS) : Prop := ∀ c a j, ¬ (c = 41 ∧ a = H ∧ (j = 12 ∨ j = 19 ∨ j = 48)) → ¬ (c = 1000 ∧ (H + 143 ≤ a ∧ a ≤ H + 148 ∨ a = H + 150 ∨ a = H + 151)) → jf v c a j = jf t c a j
theorem syU.rfl : syU A s s := fun _ _ _ _ _ _ => Eq.refl _
theorem syV.rfl : syV H t t := fun _ _ _ _ _ => Eq.refl _
/-- old symbols keep their names -/
def syK (H : Int) (t v : jS) : Prop := jf t 41 H 12 ≤ jf v 41 H 12 ∧ ∀ i, 0 ≤ i → i < jf t 41 H 12 → jf v 1000 (H + 143) i = jf t 1000 (H + 143) i
theorem syK.rfl : syK H t t := ⟨Int.le_refl _, fun _ _ _ => Eq.refl _⟩
theorem syK.wr (h : syK H t v) (e : w = jp v c a k x) (hc : ¬ (c = 41 ∧ a = H ∧ k = 12) ∧ ¬ (c = 1000 ∧ a = H + 143)) : syK H t w := by
  obtain ⟨f1, -⟩ := jpF e
  exact ⟨by rw [f1 _ _ _ (by omega)]; exact h.1, fun i i0 i1 => by rw [f1 _ _ _ (by omega)]; exact h.2 i i0 i1⟩
theorem syK.trans (h : syK H t v) (k : syK H v w) : syK H t w := ⟨by have := h.1; have := k.1; omega, fun i i0 i1 => (k.2 i i0 (by have := h.1; omega)).trans (h.2 i i0 i1)⟩
theorem syK.cg (h1 : jf v 41 H 12 = jf t 41 H 12) (h2 : ∀ i, jf v 1000 (H + 143) i = jf t 1000 (H + 143) i) : syK H t v := ⟨by rw [h1]; exact Int.le_refl _, fun i _ _ => h2 i⟩
theorem aBad.wr {r2 : jS} (h : aBad s t A H q r) (e : r2 = jp r c a j x) (hc : (c = 41 ∧ a = H ∧ 12 ≤ j ∧ j ≤ 61 ∧ ¬ j = 42 ∧ ¬ j = 43) ∨ ((c = 1000 ∨ c = 1002) ∧ H + 143 ≤ a ∧ a ≤ H + 169)) : aBad s t A H q r2 := by
  obtain ⟨f, p, h1, h2, h3, h4, h5, h6, h7⟩ := h
  obtain ⟨f1, -⟩ := jpF e
  exact ⟨f, p, h1, h2, h3, h4, ⟨by rw [f1 _ _ _ (by omega)]; exact h5.1, by rw [f1 _ _ _ (by omega)]; exact h5.2⟩, h6, h7.wr e (by omega)⟩
theorem aBad.th (h : aBad s t A H q r) : q = (q.1, true, q.2.2) := by
  obtain ⟨_, _, _, h2, -⟩ := h
  obtain ⟨q1, q2, q3⟩ := q
  have : q2 = true := h2
  subst this
  rfl
theorem symFor2 (h : AR s t A H b lo NL I OL SL k z) (m0 : 0 ≤ m) (m1 : m < NL.length) (mN : NL.length ≤ 150) :
    (∃ q r, m_X33_symbolFor s A m = some q ∧ m_X37_symbolOfName t H m = some (r, -1) ∧ aBad s t A H q r) ∨
    (∃ u v i, m_X33_symbolFor s A m = some (u, false, i) ∧ m_X37_symbolOfName t H m = some (v, i) ∧ AR u v A H b lo NL I OL SL k z ∧ cFa A s u 0 0 ∧ tF H t v ∧ (0 ≤ i ∧ i < jf v 41 H 12) ∧ jf v 1000 (H + 148) m = i ∧ syU A s u ∧ syV H t v ∧ syK H t v) := by
  have hA := h.2.2.2.1
  obtain ⟨aS, aT, aI, aB, aM, aSt, aK, aH, a0⟩ := hA
  obtain ⟨t1, t2, t3⟩ := aT.1 m m0 m1
  rw [em_X33_symbolFor, em_X37_symbolOfName]; unfold dm_X33_symbolFor dm_X37_symbolOfName
  rw [jlt_in m0 (by omega), Option.bind_some, jlt_in m0 (by omega), Option.bind_some, t1]
  by_cases c : jf t 1000 (H + 148) m = -1
  rotate_left
  · rw [if_neg c, if_neg c, eu_X33_symbolFor_21, eu_X37_symbolOfName_21]; unfold du_X33_symbolFor_21 du_X37_symbolOfName_21
    rw [jlt_in m0 (by omega), Option.bind_some, jlt_in m0 (by omega), Option.bind_some, t1]
    exact .inr ⟨s, t, _, rfl, rfl, h, cFa.rfl, tF.rfl, ⟨by omega, t3⟩, rfl, syU.rfl, syV.rfl, syK.rfl⟩
  rw [if_pos c, if_pos c]
  rcases newSym2 (c := m) (d := m) h (by unfold nSyh; rw [if_pos m0]) ⟨by omega, m1⟩ with ⟨e1, q, r, e2, e3, e4⟩ | ⟨e1, u, v, e2, e3, e4, e5, e6, e7, e8, e9, e10⟩
  · left
    obtain ⟨r2, E2⟩ : ∃ r2, r2 = jp r 1000 (H + 148) m (-1) := ⟨_, rfl⟩
    obtain ⟨f2, p2, -⟩ := jpF E2
    refine ⟨q, r2, ?_, ?_, e4.wr E2 (by omega)⟩
    · rw [e2, Option.bind_some, e4.th]; rfl
    · rw [e3, Option.bind_some, jst_in m0 (by omega), Option.bind_some, ← E2, eu_X37_symbolOfName_21]; unfold du_X37_symbolOfName_21
      rw [jlt_in m0 (by omega), Option.bind_some, p2]
  · right
    generalize hn : jf t 41 H 12 = n at *
    obtain ⟨u2, E2⟩ : ∃ u2, u2 = jp u 1000 (A + 2) m n := ⟨_, rfl⟩
    obtain ⟨v2, G2⟩ : ∃ v2, v2 = jp v 1000 (H + 148) m n := ⟨_, rfl⟩
    obtain ⟨f2, p2, -⟩ := jpF E2
    obtain ⟨g2, r2, -⟩ := jpF G2
    obtain ⟨Fu, Fv⟩ := e10
    have n0 : 0 ≤ n := by have := aS.2.1; omega
    have hA2 := e4.2.2.2.1
    obtain ⟨bS, bT, bI, bB, bM, bSt, bK, bH, b0⟩ := hA2
    have v12 : jf v2 41 H 12 = n + 1 := by rw [g2 _ _ _ (by omega)]; exact e7
    refine ⟨u2, v2, n, ?_, ?_, e4.mk (cFa.rfl.wr E2 (by omega)) (tF.rfl.wr G2 (by omega)) ⟨bS.cg (fun c a j _ => f2 _ _ _ (by omega)) (fun c a j _ => g2 _ _ _ (by omega)), ⟨fun j j0 j1 => ?_, fun j j0 j1 => ?_⟩, ⟨fun j j0 j1 j2 => ?_, fun j j0 j1 j2 => ?_, fun j e j0 j1 e0 e1 => ?_⟩, bB.cg (fun c a j _ => f2 _ _ _ (by omega)) (fun c a j _ => g2 _ _ _ (by omega)), bM.cg (fun c a j _ => f2 _ _ _ (by omega)) (fun c a j _ => g2 _ _ _ (by omega)), bSt.cg (fun c a j _ => f2 _ _ _ (by omega)) (fun c a j _ => g2 _ _ _ (by omega)), bK.cg (fun c a j _ => f2 _ _ _ (by omega)) (fun c a j _ => g2 _ _ _ (by omega)), bH.cg (fun c a j _ => f2 _ _ _ (by omega)) (fun c a j _ => g2 _ _ _ (by omega)) (by rw [v12, e7]; omega), by rw [g2 _ _ _ (by omega)]; exact b0⟩, (e5.wr E2 (by omega)), e6.wr G2 (by omega), ⟨n0, by rw [v12]; omega⟩, r2, fun c a j z1 z2 z3 => by rw [f2 _ _ _ (by omega)]; exact Fu _ _ _ (by omega) (by omega), fun c a j z1 z2 => by rw [g2 _ _ _ (by omega)]; exact Fv _ _ _ (by omega) (by omega), ⟨by rw [hn, v12]; omega, fun i' i0 i1 => by rw [hn] at i1; rw [g2 _ _ _ (by omega)]; exact Fv _ _ _ (by omega) (by omega)⟩⟩
    · rw [e2, Option.bind_some]
      show (jth false _ _) = _
      rw [jth_ff]
      show (jst u 1000 (A + 2) 150 m n).bind _ = _
      rw [jst_in m0 (by omega), Option.bind_some, ← E2, eu_X33_symbolFor_21]; unfold du_X33_symbolFor_21
      rw [jlt_in m0 (by omega), Option.bind_some, p2]
    · rw [e3, Option.bind_some]
      show (jst v 1000 (H + 148) 150 m n).bind _ = _
      rw [jst_in m0 (by omega), Option.bind_some, ← G2, eu_X37_symbolOfName_21]; unfold du_X37_symbolOfName_21
      rw [jlt_in m0 (by omega), Option.bind_some, r2]
    · rw [v12]
      by_cases cj : j = m
      · subst cj; rw [p2, r2]; exact ⟨rfl, by omega, by omega⟩
      · rw [f2 _ _ _ (by omega), g2 1000 (H + 148) j (by omega)]
        have := bT.1 j j0 j1
        rw [e7] at this; exact this
    · have := bT.2 j j0 j1
      rw [v12, f2 1000 (A + 15) j (by omega), g2 1000 (H + 149) j (by omega), f2 1000 (A + 16) j (by omega), g2 1000 (H + 150) j (by omega), f2 1000 (A + 17) j (by omega), g2 1000 (H + 151) j (by omega)]
      rw [e7] at this; exact this
    · rw [g2 1000 (H + 143) _ (by omega)]
      by_cases cj : j = m
      · subst cj; rw [r2]; exact e8
      · rw [g2 1000 (H + 148) j (by omega)] at j2 ⊢; exact bI.1 j j0 j1 j2
    · rw [g2 1000 (H + 150) j (by omega)] at j2 ⊢
      rw [g2 1000 (H + 143) _ (by omega), g2 1000 (H + 144) _ (by omega)]; exact bI.2.1 j j0 j1 j2
    · rw [g2 1000 (H + 150) j (by omega), g2 1000 (H + 150) e (by omega)]; exact bI.2.2 j e j0 j1 e0 e1
theorem hid2 (h : AR s t A H b lo NL I OL SL k z) :
    (∃ q r, m_X33_hiddenSymbol s A = some q ∧ m_X37_newHidden t H = some (r, -1) ∧ aBad s t A H q r) ∨
    (jf t 41 H 12 < 100 ∧ ∃ u v, m_X33_hiddenSymbol s A = some (u, false, jf t 41 H 12) ∧ m_X37_newHidden t H = some (v, jf t 41 H 12) ∧ AR u v A H b lo NL I OL SL k z ∧ cFa A s u 0 0 ∧ tF H t v ∧ jf v 41 H 12 = jf t 41 H 12 + 1 ∧ jf v 1000 (H + 143) (jf t 41 H 12) < 0 ∧ jf v 1000 (H + 144) (jf t 41 H 12) = -2 ∧ (∀ c a j, ¬ (c = 41 ∧ a = H ∧ (j = 12 ∨ j = 19)) → ¬ (c = 1000 ∧ H + 143 ≤ a ∧ a ≤ H + 147 ∧ j = jf t 41 H 12) → jf v c a j = jf t c a j) ∧ ∀ c a j, ¬ (c = 37 ∧ a = A ∧ (j = 25 ∨ j = 26)) → ¬ (c = 38 ∧ a = A + 1 + 26 + 1 * jf t 41 H 12) → jf u c a j = jf s c a j) := by
  have hA := h.2.2.2.1
  obtain ⟨aS, aT, aI, aB, aM, aSt, aK, aH, a0⟩ := hA
  obtain ⟨e25, c0, e26, c1, eS⟩ := aS
  rw [em_X33_hiddenSymbol, em_X37_newHidden]; unfold dm_X33_hiddenSymbol dm_X37_newHidden
  rw [e26, W32_in (z := -1 - jf t 41 H 19) (by omega) (by omega), W32_in (z := -2 - jf t 41 H 19) (by omega) (by omega)]
  rcases newSym2 (c := -1 - jf t 41 H 19) (d := -2 - jf t 41 H 19) h (by unfold nSyh; rw [if_neg (by omega)]; omega) ⟨by omega, by omega⟩ with ⟨e1, q, r, e2, e3, e4⟩ | ⟨e1, u, v, e2, e3, e4, e5, e6, e7, e8, e9, e10⟩
  · left
    refine ⟨q, r, ?_, ?_, e4⟩
    · rw [e2, Option.bind_some, e4.th]; rfl
    · rw [e3, Option.bind_some, if_pos rfl]
  · right
    generalize hn : jf t 41 H 12 = n at *
    obtain ⟨Fu, Fv⟩ := e10
    have u26 : jf u 37 A 26 = jf t 41 H 19 := by rw [Fu _ _ _ (by omega) (by omega)]; exact e26
    have v19 : jf v 41 H 19 = jf t 41 H 19 := Fv _ _ _ (by omega) (by omega)
    obtain ⟨u2, E2⟩ : ∃ u2, u2 = jp u 37 A 26 (jf t 41 H 19 + 1) := ⟨_, rfl⟩
    obtain ⟨v2, G2⟩ : ∃ v2, v2 = jp v 41 H 19 (jf t 41 H 19 + 1) := ⟨_, rfl⟩
    obtain ⟨f2, p2, -⟩ := jpF E2
    obtain ⟨g2, r2, -⟩ := jpF G2
    have hA2 := e4.2.2.2.1
    obtain ⟨bS, bT, bI, bB, bM, bSt, bK, bH, b0⟩ := hA2
    have v12 : jf v2 41 H 12 = n + 1 := by rw [g2 _ _ _ (by omega)]; exact e7
    refine ⟨e1, u2, v2, ?_, ?_, e4.mk (cFa.rfl.wr E2 (by omega)) (tF.rfl.wr G2 (by omega)) ⟨⟨by rw [f2 _ _ _ (by omega), g2 _ _ _ (by omega)]; exact bS.1, by rw [v12]; omega, by rw [p2, r2], by rw [r2, v12]; omega, fun i i0 i1 => ?_⟩, bT.cg (fun c a j _ => f2 _ _ _ (by omega)) (fun c a j _ => g2 _ _ _ (by omega)) (by rw [v12, e7]; omega), bI.cg fun a j _ => g2 _ _ _ (by omega), bB.cg (fun c a j _ => f2 _ _ _ (by omega)) (fun c a j _ => g2 _ _ _ (by omega)), bM.cg (fun c a j _ => f2 _ _ _ (by omega)) (fun c a j _ => g2 _ _ _ (by omega)), bSt.cg (fun c a j _ => f2 _ _ _ (by omega)) (fun c a j _ => g2 _ _ _ (by omega)), bK.cg (fun c a j _ => f2 _ _ _ (by omega)) (fun c a j _ => g2 _ _ _ (by omega)), bH.cg (fun c a j _ => f2 _ _ _ (by omega)) (fun c a j _ => g2 _ _ _ (by omega)) (by rw [v12, e7]; omega), by rw [g2 _ _ _ (by omega)]; exact b0⟩, e5.wr E2 (by omega), e6.wr G2 (by omega), v12, by rw [g2 _ _ _ (by omega), e8]; omega, by rw [g2 _ _ _ (by omega)]; exact e9, fun c a j z1 z2 => by rw [g2 _ _ _ (by omega)]; exact Fv _ _ _ (by omega) z2, fun c a j z1 z2 => by rw [f2 _ _ _ (by omega)]; exact Fu _ _ _ (by omega) z2⟩
    · rw [e2, Option.bind_some]
      show (jth false _ _) = _
      rw [jth_ff]
      simp only [jls]
      rw [u26, W32_in (by omega) (by omega), ← E2]
    · rw [e3, Option.bind_some]
      show (if n = -1 then _ else _) = _
      rw [if_neg (by omega)]
      simp only [jls]
      rw [v19, W32_in (by omega) (by omega), ← G2]
    · rw [v12] at i1
      exact (bS.2.2.2.2 i i0 (by rw [e7]; omega)).cg (fun k => f2 _ _ _ (by omega)) (fun a a0 a1 => g2 _ _ _ (by omega))
/-- a symbol is defined -/
theorem def2 (h : AR s t A H b lo NL I OL SL k z) (i0 : 0 ≤ i) (i1 : i < jf t 41 H 12) (hw : jf t 1000 (H + 144) i = -2) (x0 : 0 ≤ x ∧ x ≤ 4) (hy : jin y) (hnc : ∀ d, 0 ≤ d → d < 10 → ¬ jf t 1000 (H + 150) d = i) : ∃ u v, m_X33_define s A i x y 0 = some (u, false, 0) ∧ m_X37_define t H i x y = some (v, 0) ∧ AR u v A H b lo NL I OL SL k z ∧ cFa A s u 0 0 ∧ tF H t v ∧ (∀ c a j, ¬ (c = 1000 ∧ (a = H + 144 ∨ a = H + 145) ∧ j = i) → jf v c a j = jf t c a j) ∧ ∀ c a j, ¬ (c = 38 ∧ a = A + 1 + 26 + 1 * i) → jf u c a j = jf s c a j := by
  have hA := h.2.2.2.1
  obtain ⟨aS, aT, aI, aB, aM, aSt, aK, aH, a0⟩ := hA
  obtain ⟨e25, c0, e26, c1, eS⟩ := aS
  obtain ⟨q1, q2, q3, q4, q5, q6, q7, q8, q9, q10, q11⟩ := eS i i0 i1
  have w1 : jf s 38 (A + 1 + 26 + 1 * i) 1 = -1 := by
    by_cases cw : jf s 38 (A + 1 + 26 + 1 * i) 1 = -1
    · exact cw
    · rw [if_neg cw, hw] at q3; omega
  rw [em_X33_define, em_X37_define]; unfold dm_X33_define dm_X37_define
  rw [jix_in i0 (by omega), Option.bind_some, if_pos w1, if_neg (by omega), eu_X33_define_31]; unfold du_X33_define_31
  rw [eu_X33_define_36]; unfold du_X33_define_36
  rw [need1 (by decide), Option.bind_some]
  show ∃ u v, (jth false _ _) = some (u, false, 0) ∧ _
  rw [jth_ff, jix_in i0 (by omega), Option.bind_some]
  simp only [jls, Option.bind_some]
  obtain ⟨u1, E1⟩ : ∃ u1, u1 = jp s 38 (A + 1 + 26 + 1 * i) 1 x := ⟨_, rfl⟩
  obtain ⟨u2, E2⟩ : ∃ u2, u2 = jp u1 38 (A + 1 + 26 + 1 * i) 2 y := ⟨_, rfl⟩
  obtain ⟨u3, E3⟩ : ∃ u3, u3 = jp u2 38 (A + 1 + 26 + 1 * i) 3 0 := ⟨_, rfl⟩
  obtain ⟨v1, G1⟩ : ∃ v1, v1 = jp t 1000 (H + 144) i x := ⟨_, rfl⟩
  obtain ⟨v2, G2⟩ : ∃ v2, v2 = jp v1 1000 (H + 145) i y := ⟨_, rfl⟩
  obtain ⟨f1, p1, -⟩ := jpF E1
  obtain ⟨f2, p2, -⟩ := jpF E2
  obtain ⟨f3, p3, -⟩ := jpF E3
  obtain ⟨g1, r1, -⟩ := jpF G1
  obtain ⟨g2, r2, -⟩ := jpF G2
  have Fu : ∀ c a j, ¬ (c = 38 ∧ a = A + 1 + 26 + 1 * i) → jf u3 c a j = jf s c a j := fun c a j z1 => by rw [f3 _ _ _ (by omega), f2 _ _ _ (by omega), f1 _ _ _ (by omega)]
  have Fv : ∀ c a j, ¬ (c = 1000 ∧ (a = H + 144 ∨ a = H + 145) ∧ j = i) → jf v2 c a j = jf t c a j := fun c a j z1 => by rw [g2 _ _ _ (by omega), g1 _ _ _ (by omega)]
  have cF : cFa A s u3 0 0 := (((cFa.rfl (A := A)).wr E1 (by omega)).wr E2 (by omega)).wr E3 (by omega)
  have tFv : tF H t v2 := ((tF.rfl (H := H)).wr G1 (by omega)).wr G2 (by omega)
  refine ⟨u3, v2, ?_, ?_, h.mk cF tFv ⟨⟨by rw [Fu _ _ _ (by omega), Fv _ _ _ (by omega)]; exact e25, by rw [Fv _ _ _ (by omega)]; exact c0, by rw [Fu _ _ _ (by omega), Fv _ _ _ (by omega)]; exact e26, by rw [Fv _ _ _ (by omega), Fv _ _ _ (by omega)]; exact c1, fun j j0 j1 => ?_⟩, aT.cg (fun c a j _ => Fu _ _ _ (by omega)) (fun c a j _ => Fv _ _ _ (by omega)) (by rw [Fv _ _ _ (by omega)]; omega), ⟨fun j j0 j1 j2 => ?_, fun j j0 j1 j2 => ?_, fun j e j0 j1 e0 e1 => ?_⟩, aB.cg (fun c a j _ => Fu _ _ _ (by omega)) (fun c a j _ => Fv _ _ _ (by omega)), aM.cg (fun c a j _ => Fu _ _ _ (by omega)) (fun c a j _ => Fv _ _ _ (by omega)), aSt.cg (fun c a j _ => Fu _ _ _ (by omega)) (fun c a j _ => Fv _ _ _ (by omega)), aK.cg (fun c a j _ => Fu _ _ _ (by omega)) (fun c a j _ => Fv _ _ _ (by omega)), aH.cg (fun c a j _ => Fu _ _ _ (by omega)) (fun c a j _ => Fv _ _ _ (by omega)) (by rw [Fv _ _ _ (by omega)]; omega), by rw [Fv _ _ _ (by omega)]; exact a0⟩, cF, tFv, Fv, Fu⟩
  · rw [← E1, ← E2, ← E3]
  · rw [jst_in i0 (by omega), Option.bind_some, ← G1, jst_in i0 (by omega), Option.bind_some, ← G2]
  · rw [Fv _ _ _ (by omega)] at j1
    by_cases cj : j = i
    · subst cj
      have w0 : jf u3 38 (A + 1 + 26 + 1 * j) 0 = jf s 38 (A + 1 + 26 + 1 * j) 0 := by rw [f3 _ _ _ (by omega), f2 _ _ _ (by omega), f1 _ _ _ (by omega)]
      have w1' : jf u3 38 (A + 1 + 26 + 1 * j) 1 = x := by rw [f3 _ _ _ (by omega), f2 _ _ _ (by omega)]; exact p1
      have w2 : jf u3 38 (A + 1 + 26 + 1 * j) 2 = y := by rw [f3 _ _ _ (by omega)]; exact p2
      have w4 : jf u3 38 (A + 1 + 26 + 1 * j) 4 = jf s 38 (A + 1 + 26 + 1 * j) 4 := by rw [f3 _ _ _ (by omega), f2 _ _ _ (by omega), f1 _ _ _ (by omega)]
      have w5 : jf u3 38 (A + 1 + 26 + 1 * j) 5 = jf s 38 (A + 1 + 26 + 1 * j) 5 := by rw [f3 _ _ _ (by omega), f2 _ _ _ (by omega), f1 _ _ _ (by omega)]
      unfold aS1
      rw [w0, w1', w2, p3, w4, w5, Fv 1000 (H + 143) j (by omega), Fv 1000 (H + 146) j (by omega), Fv 1000 (H + 147) j (by omega), r2, g2 1000 (H + 144) j (by omega), r1, if_neg (show ¬ x = -1 by omega)]
      exact ⟨q1, q2, rfl, by omega, rfl, hy, by rw [q7]; exact q8.2.2 w1, ⟨by decide, by decide, fun _ => rfl⟩, q9, q10, q11⟩
    · exact (eS j j0 j1).cg (fun k => Fu _ _ _ (by omega)) (fun a a0 a1 => Fv _ _ _ (by omega))
  · rw [Fv 1000 (H + 148) j (by omega)] at j2 ⊢
    rw [Fv 1000 (H + 143) _ (by omega)]; exact aI.1 j j0 j1 j2
  · rw [Fv 1000 (H + 150) j (by omega)] at j2 ⊢
    have := hnc j j0 j1
    rw [Fv 1000 (H + 143) _ (by omega), Fv 1000 (H + 144) _ (by omega)]; exact aI.2.1 j j0 j1 j2
  · rw [Fv 1000 (H + 150) j (by omega), Fv 1000 (H + 150) e (by omega)]; exact aI.2.2 j e j0 j1 e0 e1
theorem defBad (h : AR s t A H b lo NL I OL SL k z) (i0 : 0 ≤ i) (i1 : i < jf t 41 H 12) (hw : ¬ jf t 1000 (H + 144) i = -2) : ∃ q r, m_X33_define s A i x y e = some q ∧ m_X37_fail t H 16 = some (r, 0) ∧ aBad s t A H q r := by
  have hA := h.2.2.2.1
  obtain ⟨aS, aT, aI, aB, aM, aSt, aK, aH, a0⟩ := hA
  obtain ⟨e25, c0, e26, c1, eS⟩ := aS
  obtain ⟨q1, q2, q3, q4, q5, q6, q7, q8, q9, q10, q11⟩ := eS i i0 i1
  have w1 : ¬ jf s 38 (A + 1 + 26 + 1 * i) 1 = -1 := fun cw => by rw [if_pos cw] at q3; exact hw q3
  obtain ⟨q, r, e1, e2, e3⟩ := need2 (o := 16) h (by decide)
  refine ⟨q, r, ?_, e2, e3⟩
  rw [em_X33_define]; unfold dm_X33_define
  rw [jix_in i0 (by omega), Option.bind_some, if_neg w1, eu_X33_define_35]; unfold du_X33_define_35
  rw [eu_X33_define_36]; unfold du_X33_define_36
  rw [e1, Option.bind_some, e3.th]; rfl
/-- a name's symbol is none that comes -/
theorem AR.nc (h : AR s t A H b lo NL I OL SL k z) (m0 : 0 ≤ m) (m1 : m < NL.length) (hi : jf t 1000 (H + 148) m = i) (i0 : 0 ≤ i) : ∀ d, 0 ≤ d → d < 10 → ¬ jf t 1000 (H + 150) d = i := fun d d0 d1 hd => by
  obtain ⟨-, aT, aI, -⟩ := h.2.2.2.1
  have e1 := aI.1 m m0 m1 (by omega)
  have e2 := (aI.2.1 d d0 d1 (by omega)).1
  rw [hi] at e1; rw [hd] at e2
  omega
end jAsm4
