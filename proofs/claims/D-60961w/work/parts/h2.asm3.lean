/-! the assembler: symbols *-/
section jAsm3
variable {s t u v w s1 t1 : jS} {A H b lo N k i j o c a n p X Y X' Y' d e : Int} {f g f' g' : Int → Int → Int → Int} {NL : List (List Int)} {I : pI} {OL : List pvO} {SL : List pvS} {z : pvS} {B : Int → Prop} {q : jS × Bool × Int} {r : jS}
/-- the relation again after writes that leave it -/
theorem AR.mk (h : AR s t A H b lo NL I OL SL k z) (c1 : cFa A s u 0 0) (c2 : tF H t v) (ha : aAll (jf u) (jf v) A H NL.length k z) : AR u v A H b lo NL I OL SL k z := by
  obtain ⟨hC, hT, hB, -, hk⟩ := h
  exact ⟨hC.keep c1, hT.keep c2, ⟨by rw [c1.1.2.2.2.1]; have := c1.1; have := hB.1; omega, by rw [c1.1.2.2.2.2.1]; have := c1.1; have := hB.2; omega⟩, ha, hk⟩
def nSyh (c : Int) : Int := if 0 ≤ c then c else c - 1
/-- where a new symbol is written -/
def newG (A H n : Int) (s t u v : jS) : Prop := (∀ c a k, ¬ (c = 37 ∧ a = A ∧ k = 25) → ¬ (c = 38 ∧ a = A + 1 + 26 + 1 * n) → jf u c a k = jf s c a k) ∧ (∀ c a k, ¬ (c = 41 ∧ a = H ∧ k = 12) → ¬ (c = 1000 ∧ H + 143 ≤ a ∧ a ≤ H + 147 ∧ k = n) → jf v c a k = jf t c a k)
theorem newSym2 (h : AR s t A H b lo NL I OL SL k z) (hd : d = nSyh c) (hc : (jf t 41 H 12 < 100 → -100 ≤ c) ∧ c < NL.length) :
    (jf t 41 H 12 = 100 ∧ ∃ q r, m_X33_newSymbol s A c = some q ∧ m_X37_newSymbol t H d = some (r, -1) ∧ aBad s t A H q r) ∨
    (jf t 41 H 12 < 100 ∧ ∃ u v, m_X33_newSymbol s A c = some (u, false, jf t 41 H 12) ∧ m_X37_newSymbol t H d = some (v, jf t 41 H 12) ∧ AR u v A H b lo NL I OL SL k z ∧ cFa A s u 0 0 ∧ tF H t v ∧ jf v 41 H 12 = jf t 41 H 12 + 1 ∧ jf v 1000 (H + 143) (jf t 41 H 12) = d ∧ jf v 1000 (H + 144) (jf t 41 H 12) = -2 ∧ newG A H (jf t 41 H 12) s t u v) := by
  obtain ⟨hb1, hb2, hb3⟩ := h.bd
  have hA := h.2.2.2.1
  obtain ⟨aS, aT, aI, aB, aM, aSt, aK, aH, a0⟩ := hA
  obtain ⟨e25, c0, e26, c1, eS⟩ := aS
  rw [em_X33_newSymbol, em_X37_newSymbol]; unfold dm_X33_newSymbol dm_X37_newSymbol
  rw [e25]
  by_cases cf : jf t 41 H 12 = 100
  · obtain ⟨q, r, e1, e2, e3⟩ := need2 (o := 18) h (by decide)
    refine .inl ⟨cf, q, r, ?_, ?_, e3⟩
    · rw [if_neg (by omega), eu_X33_newSymbol_15]; unfold du_X33_newSymbol_15
      rw [e1, Option.bind_some]
      obtain ⟨q1, q2, q3⟩ := q
      obtain ⟨_, _, _, h2, -⟩ := e3
      have : q2 = true := h2
      subst this
      rfl
    · rw [if_pos cf, e2, Option.bind_some]
  have cl : jf t 41 H 12 < 100 := by omega
  refine .inr ⟨cl, ?_⟩
  rw [if_pos cl, if_neg cf, eu_X33_newSymbol_15]; unfold du_X33_newSymbol_15
  rw [need1 (by decide), Option.bind_some]
  show ∃ u v, (jth false _ _) = some (u, false, jf t 41 H 12) ∧ _
  rw [jth_ff, e25, jix_in c0.1 cl, Option.bind_some, em_X34_begin]; unfold dm_X34_begin
  simp only [jls]
  rw [jzb_in (.inl rfl), Option.bind_some, Option.bind_some, Option.bind_some]
  generalize hn : jf t 41 H 12 = n at *
  obtain ⟨u1, E1⟩ : ∃ u1, u1 = jp s 38 (A + 1 + 26 + 1 * n) 0 c := ⟨_, rfl⟩
  obtain ⟨u2, E2⟩ : ∃ u2, u2 = jp u1 38 (A + 1 + 26 + 1 * n) 1 (-1) := ⟨_, rfl⟩
  obtain ⟨u3, E3⟩ : ∃ u3, u3 = jp u2 38 (A + 1 + 26 + 1 * n) 2 0 := ⟨_, rfl⟩
  obtain ⟨u4, E4⟩ : ∃ u4, u4 = jp u3 38 (A + 1 + 26 + 1 * n) 3 0 := ⟨_, rfl⟩
  obtain ⟨u5, E5⟩ : ∃ u5, u5 = jp u4 38 (A + 1 + 26 + 1 * n) 4 0 := ⟨_, rfl⟩
  obtain ⟨u6, E6⟩ : ∃ u6, u6 = jp u5 38 (A + 1 + 26 + 1 * n) 5 0 := ⟨_, rfl⟩
  obtain ⟨u7, E7⟩ : ∃ u7, u7 = jp u6 37 A 25 (n + 1) := ⟨_, rfl⟩
  obtain ⟨v1, G1⟩ : ∃ v1, v1 = jp t 41 H 12 (n + 1) := ⟨_, rfl⟩
  obtain ⟨v2, G2⟩ : ∃ v2, v2 = jp v1 1000 (H + 143) n d := ⟨_, rfl⟩
  obtain ⟨v3, G3⟩ : ∃ v3, v3 = jp v2 1000 (H + 144) n (-2) := ⟨_, rfl⟩
  obtain ⟨v4, G4⟩ : ∃ v4, v4 = jp v3 1000 (H + 145) n 0 := ⟨_, rfl⟩
  obtain ⟨v5, G5⟩ : ∃ v5, v5 = jp v4 1000 (H + 146) n 0 := ⟨_, rfl⟩
  obtain ⟨v6, G6⟩ : ∃ v6, v6 = jp v5 1000 (H + 147) n 0 := ⟨_, rfl⟩
  obtain ⟨f1, p1, -⟩ := jpF E1
  obtain ⟨f2, p2, -⟩ := jpF E2
  obtain ⟨f3, p3, -⟩ := jpF E3
  obtain ⟨f4, p4, -⟩ := jpF E4
  obtain ⟨f5, p5, -⟩ := jpF E5
  obtain ⟨f6, p6, -⟩ := jpF E6
  obtain ⟨f7, p7, -⟩ := jpF E7
  obtain ⟨g1, r1, -⟩ := jpF G1
  obtain ⟨g2, r2, -⟩ := jpF G2
  obtain ⟨g3, r3, -⟩ := jpF G3
  obtain ⟨g4, r4, -⟩ := jpF G4
  obtain ⟨g5, r5, -⟩ := jpF G5
  obtain ⟨g6, r6, -⟩ := jpF G6
  have cF : cFa A s u7 0 0 := (((((((cFa.rfl (A := A)).wr E1 (by omega)).wr E2 (by omega)).wr E3 (by omega)).wr E4 (by omega)).wr E5 (by omega)).wr E6 (by omega)).wr E7 (by omega)
  have tFv : tF H t v6 := ((((((tF.rfl (H := H)).wr G1 (by omega)).wr G2 (by omega)).wr G3 (by omega)).wr G4 (by omega)).wr G5 (by omega)).wr G6 (by omega)
  have Fu : ∀ c a k, ¬ (c = 37 ∧ a = A ∧ k = 25) → ¬ (c = 38 ∧ a = A + 1 + 26 + 1 * n) → jf u7 c a k = jf s c a k := fun c a k z1 z2 => by
    rw [f7 _ _ _ z1, f6 _ _ _ (by omega), f5 _ _ _ (by omega), f4 _ _ _ (by omega), f3 _ _ _ (by omega), f2 _ _ _ (by omega), f1 _ _ _ (by omega)]
  have Fv : ∀ c a k, ¬ (c = 41 ∧ a = H ∧ k = 12) → ¬ (c = 1000 ∧ H + 143 ≤ a ∧ a ≤ H + 147 ∧ k = n) → jf v6 c a k = jf t c a k := fun c a k z1 z2 => by
    rw [g6 _ _ _ (by omega), g5 _ _ _ (by omega), g4 _ _ _ (by omega), g3 _ _ _ (by omega), g2 _ _ _ (by omega), g1 _ _ _ z1]
  have v12 : jf v6 41 H 12 = n + 1 := by rw [g6 _ _ _ (by omega), g5 _ _ _ (by omega), g4 _ _ _ (by omega), g3 _ _ _ (by omega), g2 _ _ _ (by omega)]; exact r1
  have v143 : jf v6 1000 (H + 143) n = d := by rw [g6 _ _ _ (by omega), g5 _ _ _ (by omega), g4 _ _ _ (by omega), g3 _ _ _ (by omega)]; exact r2
  have v144 : jf v6 1000 (H + 144) n = -2 := by rw [g6 _ _ _ (by omega), g5 _ _ _ (by omega), g4 _ _ _ (by omega)]; exact r3
  have v145 : jf v6 1000 (H + 145) n = 0 := by rw [g6 _ _ _ (by omega), g5 _ _ _ (by omega)]; exact r4
  have v146 : jf v6 1000 (H + 146) n = 0 := by rw [g6 _ _ _ (by omega)]; exact r5
  have w0 : jf u7 38 (A + 1 + 26 + 1 * n) 0 = c := by rw [f7 _ _ _ (by omega), f6 _ _ _ (by omega), f5 _ _ _ (by omega), f4 _ _ _ (by omega), f3 _ _ _ (by omega), f2 _ _ _ (by omega)]; exact p1
  have w1 : jf u7 38 (A + 1 + 26 + 1 * n) 1 = -1 := by rw [f7 _ _ _ (by omega), f6 _ _ _ (by omega), f5 _ _ _ (by omega), f4 _ _ _ (by omega), f3 _ _ _ (by omega)]; exact p2
  have w2 : jf u7 38 (A + 1 + 26 + 1 * n) 2 = 0 := by rw [f7 _ _ _ (by omega), f6 _ _ _ (by omega), f5 _ _ _ (by omega), f4 _ _ _ (by omega)]; exact p3
  have w3 : jf u7 38 (A + 1 + 26 + 1 * n) 3 = 0 := by rw [f7 _ _ _ (by omega), f6 _ _ _ (by omega), f5 _ _ _ (by omega)]; exact p4
  have w4 : jf u7 38 (A + 1 + 26 + 1 * n) 4 = 0 := by rw [f7 _ _ _ (by omega), f6 _ _ _ (by omega)]; exact p5
  have w5 : jf u7 38 (A + 1 + 26 + 1 * n) 5 = 0 := by rw [f7 _ _ _ (by omega)]; exact p6
  refine ⟨u7, v6, ?_, ?_, h.mk cF tFv ⟨⟨by rw [p7, v12], by rw [v12]; omega, by rw [Fu _ _ _ (by omega) (by omega), Fv _ _ _ (by omega) (by omega)]; exact e26, by rw [Fv 41 H 19 (by omega) (by omega), v12]; omega, fun i i0 i1 => ?_⟩, aT.cg (fun c a k _ => Fu _ _ _ (by omega) (by omega)) (fun c a k _ => Fv _ _ _ (by omega) (by omega)) (by rw [v12, hn]; omega), ⟨fun j j0 j1 j2 => ?_, fun j j0 j1 j2 => ?_, fun j e j0 j1 e0 e1 => ?_⟩, aB.cg (fun c a k _ => Fu _ _ _ (by omega) (by omega)) (fun c a k _ => Fv _ _ _ (by omega) (by omega)), aM.cg (fun c a k _ => Fu _ _ _ (by omega) (by omega)) (fun c a k _ => Fv _ _ _ (by omega) (by omega)), aSt.cg (fun c a k _ => Fu _ _ _ (by omega) (by omega)) (fun c a k _ => Fv _ _ _ (by omega) (by omega)), aK.cg (fun c a k _ => Fu _ _ _ (by omega) (by omega)) (fun c a k _ => Fv _ _ _ (by omega) (by omega)), aH.cg (fun c a k _ => Fu _ _ _ (by omega) (by omega)) (fun c a k _ => Fv _ _ _ (by omega) (by omega)) (by rw [v12, hn]; omega), by rw [Fv _ _ _ (by omega) (by omega)]; exact a0⟩, cF, tFv, v12, v143, v144, Fu, Fv⟩
  · have k25 : jf u6 37 A 25 = n := by rw [f6 _ _ _ (by omega), f5 _ _ _ (by omega), f4 _ _ _ (by omega), f3 _ _ _ (by omega), f2 _ _ _ (by omega), f1 _ _ _ (by omega)]; exact e25
    rw [← E1, ← E2, ← E3, ← E4, ← E5, ← E6, k25, W32_in (by omega) (by omega), ← E7, p7, W32_in (by omega) (by omega), show n + 1 - 1 = n by omega]
  · rw [W32_in (by omega) (by omega), ← G1, jst_in (by omega) (by omega), Option.bind_some, ← G2, jst_in (by omega) (by omega), Option.bind_some, ← G3, jst_in (by omega) (by omega), Option.bind_some, ← G4, jst_in (by omega) (by omega), Option.bind_some, ← G5, jst_in (by omega) (by omega), Option.bind_some, ← G6]
  · rw [v12] at i1
    by_cases ci : i = n
    · subst ci
      unfold aS1
      rw [w0, w1, w2, w3, w4, w5, v143, v144, v145, v146, r6]
      refine ⟨hd, ⟨hc.1 (by omega), hc.2⟩, by rw [if_pos rfl], by decide, rfl, by unfold jin; omega, rfl, ⟨by decide, by decide, fun _ => rfl⟩, .inl rfl, .inl rfl, by rw [if_neg (by decide), if_neg (by decide)]⟩
    · exact (eS i i0 (by omega)).cg (fun k => Fu _ _ _ (by omega) (by omega)) (fun a a0 a1 => Fv _ _ _ (by omega) (by omega))
  · have hk := aT.1 j j0 j1
    rw [hn] at hk
    rw [Fv (1000) (H + 148) j (by omega) (by omega)] at j2 ⊢
    rw [Fv _ _ _ (by omega) (by omega)]
    exact aI.1 j j0 j1 j2
  · have hk := (aT.2 j j0 j1).2.1
    rw [hn] at hk
    rw [Fv (1000) (H + 150) j (by omega) (by omega)] at j2 ⊢
    rw [Fv 1000 (H + 143) _ (by omega) (by omega), Fv 1000 (H + 144) _ (by omega) (by omega)]
    exact aI.2.1 j j0 j1 j2
  · rw [Fv (1000) (H + 150) j (by omega) (by omega), Fv (1000) (H + 150) e (by omega) (by omega)]
    exact aI.2.2 j e j0 j1 e0 e1
end jAsm3
