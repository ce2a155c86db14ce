/-! the assembler: here, locals *-/
section jAsm5
variable {s t u v w s1 t1 : jS} {A H b lo N k i j o c a n p X Y X' Y' d e m x y : Int} {f g f' g' : Int → Int → Int → Int} {NL : List (List Int)} {I : pI} {OL : List pvO} {SL : List pvS} {z : pvS} {B : Int → Prop} {q : jS × Bool × Int} {r : jS}
/-- a symbol on both sides, or a fault -/
def syOut (s t : jS) (A H b lo : Int) (NL : List (List Int)) (I : pI) (OL : List pvO) (SL : List pvS) (k : Int) (z : pvS) (x : Option (jS × Bool × Int)) (y : Option (jS × Int)) : Prop :=
  (∃ q r, x = some q ∧ y = some (r, -1) ∧ aBad s t A H q r) ∨
  (∃ u v i, x = some (u, false, i) ∧ y = some (v, i) ∧ AR u v A H b lo NL I OL SL k z ∧ cFa A s u 0 0 ∧ tF H t v ∧ (0 ≤ i ∧ i < jf v 41 H 12) ∧ syU A s u ∧ syV H t v ∧ syK H t v)
theorem symFor3 (h : AR s t A H b lo NL I OL SL k z) (m0 : 0 ≤ m) (m1 : m < NL.length) (mN : NL.length ≤ 150) : syOut s t A H b lo NL I OL SL k z (m_X33_symbolFor s A m) (m_X37_symbolOfName t H m) := by
  rcases symFor2 h m0 m1 mN with h' | ⟨u, v, i, e1, e2, e3, e4, e5, e6, -, e7, e8⟩
  · exact .inl h'
  · exact .inr ⟨u, v, i, e1, e2, e3, e4, e5, e6, e7, e8⟩
theorem here2 (h : AR s t A H b lo NL I OL SL k z) : syOut s t A H b lo NL I OL SL k z (m_X33_hereSymbol s A) (m_X37_symbolHere t H) := by
  have hA := h.2.2.2.1
  obtain ⟨aS, aT, aI, aB, aM, aSt, aK, ⟨aH1, aH2, aH3⟩, a0⟩ := hA
  rw [em_X33_hereSymbol, em_X37_symbolHere]; unfold dm_X33_hereSymbol dm_X37_symbolHere
  rw [aH2.1]
  by_cases c : jf t 41 H 48 = -1
  rotate_left
  · rw [if_neg c, if_neg c, eu_X33_hereSymbol_33]; unfold du_X33_hereSymbol_33
    rw [aH2.1]
    exact .inr ⟨s, t, _, rfl, rfl, h, cFa.rfl, tF.rfl, ⟨by omega, aH2.2.2⟩, syU.rfl, syV.rfl, syK.rfl⟩
  rw [if_pos c, if_pos c]
  rcases hid2 h with ⟨q, r, e1, e2, e3⟩ | ⟨e0, u, v, e1, e2, e3, e4, e5, e6, e7, e8, e9, e10⟩
  · left
    obtain ⟨r2, E2⟩ : ∃ r2, r2 = jp r 41 H 48 (-1) := ⟨_, rfl⟩
    obtain ⟨f2, p2, -⟩ := jpF E2
    refine ⟨q, r2, ?_, ?_, e3.wr E2 (by omega)⟩
    · rw [e1, Option.bind_some, e3.th]; rfl
    · rw [e2, Option.bind_some]
      simp only [jls]
      rw [← E2, p2, if_pos rfl, eu_X37_symbolHere_45]; unfold du_X37_symbolHere_45
      rw [p2]
  right
  generalize hn : jf t 41 H 12 = n at *
  have n0 : 0 ≤ n := by have := aS.2.1; omega
  obtain ⟨u2, E2⟩ : ∃ u2, u2 = jp u 37 A 31 n := ⟨_, rfl⟩
  obtain ⟨v2, G2⟩ : ∃ v2, v2 = jp v 41 H 48 n := ⟨_, rfl⟩
  obtain ⟨f2, p2, -⟩ := jpF E2
  obtain ⟨g2, r2, -⟩ := jpF G2
  obtain ⟨bS, bT, bI, bB, bM, bSt, bK, ⟨bH1, bH2, bH3⟩, b0⟩ := e3.2.2.2.1
  have v12 : jf v2 41 H 12 = n + 1 := by rw [g2 _ _ _ (by omega)]; exact e6
  have R2 : AR u2 v2 A H b lo NL I OL SL k z := e3.mk (cFa.rfl.wr E2 (by omega)) (tF.rfl.wr G2 (by omega)) ⟨bS.cg (fun c a j _ => f2 _ _ _ (by omega)) (fun c a j _ => g2 _ _ _ (by omega)), bT.cg (fun c a j _ => f2 _ _ _ (by omega)) (fun c a j _ => g2 _ _ _ (by omega)) (by rw [v12, e6]; omega), bI.cg fun a j _ => g2 _ _ _ (by omega), bB.cg (fun c a j _ => f2 _ _ _ (by omega)) (fun c a j _ => g2 _ _ _ (by omega)), bM.cg (fun c a j _ => f2 _ _ _ (by omega)) (fun c a j _ => g2 _ _ _ (by omega)), bSt.cg (fun c a j _ => f2 _ _ _ (by omega)) (fun c a j _ => g2 _ _ _ (by omega)), bK.cg (fun c a j _ => f2 _ _ _ (by omega)) (fun c a j _ => g2 _ _ _ (by omega)), ⟨by rw [f2 _ _ _ (by omega), g2 _ _ _ (by omega)]; exact bH1, by rw [p2, r2, v12]; exact ⟨rfl, by omega, by omega⟩, by rw [f2 _ _ _ (by omega), g2 _ _ _ (by omega)]; exact bH3⟩, by rw [g2 _ _ _ (by omega)]; exact b0⟩
  have cur := R2.2.2.2.1.2.2.2.1.1
  have beg := R2.2.2.2.1.2.2.2.2.2.2.2.1.2.2
  obtain ⟨u3, v3, d1, d2, d3, d4, d5, d6, d7⟩ := def2 (i := n) (x := jf v2 41 H 34) (y := jf v2 41 H 47) R2 n0 (by rw [v12]; omega) (by rw [g2 _ _ _ (by omega)]; exact e8) (by omega) (by unfold jin; omega) (fun d d0 d1' => by
    have := (aT.2 d d0 d1').2.1
    rw [g2 _ _ _ (by omega), e9 _ _ _ (by omega) (by omega)]
    rw [hn] at this; omega)
  refine ⟨u3, v3, n, ?_, ?_, d3, ((e4.wr E2 (by omega)).trans d4 : cFa A s u3 (0 + 0) (0 + 0)), (e5.wr G2 (by omega)).trans d5, ⟨n0, by rw [d6 _ _ _ (by omega), v12]; omega⟩, fun c a j z1 z2 z3 => by rw [d7 _ _ _ (by omega), f2 _ _ _ (by omega)]; exact e10 _ _ _ (by omega) (by omega), fun c a j z1 z2 => by rw [d6 _ _ _ (by omega), g2 _ _ _ (by omega)]; exact e9 _ _ _ (by omega) (by omega), ⟨by rw [hn, d6 _ _ _ (by omega), v12]; omega, fun i' i0 i1 => by rw [hn] at i1; rw [d6 _ _ _ (by omega), g2 _ _ _ (by omega)]; exact e9 _ _ _ (by omega) (by omega)⟩⟩
  · rw [e1, Option.bind_some]
    show (jth false _ _) = _
    rw [jth_ff]
    simp only [jls]
    rw [← E2, p2, cur.1, beg.1, d1, Option.bind_some]
    show (jth false _ _) = _
    rw [jth_ff, eu_X33_hereSymbol_33]; unfold du_X33_hereSymbol_33
    rw [d7 _ _ _ (by omega), p2]
  · rw [e2, Option.bind_some]
    simp only [jls]
    rw [← G2, r2, if_neg (by omega), d2, Option.bind_some, eu_X37_symbolHere_45]; unfold du_X37_symbolHere_45
    rw [d6 _ _ _ (by omega), r2]
end jAsm5
