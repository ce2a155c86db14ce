/-! statements: between statements *-/
set_option maxRecDepth 100000
section jState
variable {s t u w s1 t1 s0 u1 : jS} {v A H b lo k c a x y d n j m p i : Int} {l : List Int} {NL : List (List Int)} {I : pI} {OL : List pvO} {SL : List pvS} {z : pvS} {zo : pvO} {Q Q' : jS → jS → Int → Prop} {xx : Option (jS × Bool × Int)} {yy : Option (jS × Int)} {q : jS × Bool × Int} {r : jS}
/-- the two assemblers between statements *-/
def LI (s t : jS) (A H b lo : Int) (NL : List (List Int)) (I : pI) (OL : List pvO) (SL : List pvS) (k : Int) : Prop := cCx s A b lo NL I OL SL ∧ tCx t H NL I OL SL ∧ jBd s 4 40 ∧ (aSym (jf s) (jf t) A H NL.length ∧ aTab (jf s) (jf t) A H NL.length ∧ aInv (jf t) H NL.length ∧ aByt (jf s) (jf t) A H ∧ aMov (jf s) (jf t) A H ∧ aSta (jf s) (jf t) A H ∧ aKep (jf s) (jf t) A H ∧ jf t 41 H 42 = 0) ∧ (0 ≤ k ∧ k ≤ SL.length ∧ jf s 37 A 33 = k) ∧ jf t 41 H 26 ≤ k
theorem LI.s400 (h : LI s t A H b lo NL I OL SL k) : SL.length ≤ 400 := h.1.1.2.2.2.2.2.2.1
theorem LI.n150 (h : LI s t A H b lo NL I OL SL k) : NL.length ≤ 150 := h.1.1.2.2.1.2.1
theorem jGw.bd {p q X Y : Int} {B : Int → Prop} (g : jGw s u 0 0 B) (h : jBd s X Y) : jBd u X Y := by
  unfold jBd at h ⊢
  obtain ⟨g1, g2, g3, g4, g5, g6⟩ := g.1
  omega
theorem LI.ar (h : LI s t A H b lo NL I OL SL k) (k1 : k < SL.length) (cF : cFa A s u 0 0) (tf : tF H t w) (fu : ∀ c a j, ¬ (c = 37 ∧ a = A ∧ (j = 31 ∨ j = 32 ∨ j = 34 ∨ j = 35)) → jf u c a j = jf s c a j) (fv : ∀ c a j, ¬ (c = 41 ∧ a = H ∧ (44 ≤ j ∧ j ≤ 48 ∨ 59 ≤ j ∧ j ≤ 61)) → ¬ (c = 1000 ∧ a = H + 169) → jf w c a j = jf t c a j) (hh : aHer (jf u) (jf w) A H k (tS SL k)) : AR u w A H b lo NL I OL SL k (tS SL k) := by
  obtain ⟨h1, h2, h3, ⟨aS, aT, aI, aB, aM, aSt, aK, a0⟩, ⟨k0, k2, k3⟩, hst⟩ := h
  exact ⟨h1.keep cF, h2.keep tf, jGw.bd (p := 0) (q := 0) cF h3, ⟨aS.cg (fun c a j _ => fu _ _ _ (by omega)) (fun c a j _ => fv _ _ _ (by omega) (by omega)), aT.cg (fun c a j _ => fu _ _ _ (by omega)) (fun c a j _ => fv _ _ _ (by omega) (by omega)) (by rw [fv _ _ _ (by omega) (by omega)]; omega), aI.cg fun a j _ => fv _ _ _ (by omega) (by omega), aB.cg (fun c a j _ => fu _ _ _ (by omega)) (fun c a j _ => fv _ _ _ (by omega) (by omega)), aM.cg (fun c a j _ => fu _ _ _ (by omega)) (fun c a j _ => fv _ _ _ (by omega) (by omega)), aSt.cg (fun c a j _ => fu _ _ _ (by omega)) (fun c a j _ => fv _ _ _ (by omega) (by omega)), aK.cg (fun c a j _ => fu _ _ _ (by omega)) (fun c a j _ => fv _ _ _ (by omega) (by omega)), hh, by rw [fv _ _ _ (by omega) (by omega)]; exact a0⟩, k0, k1, rfl⟩
/-- behind a statement -/
theorem LI.of (h : AR u w A H b lo NL I OL SL k z) (E : u1 = jp u 37 A 33 (k + 1)) (hst : jf w 41 H 26 ≤ k + 1) : LI u1 w A H b lo NL I OL SL (k + 1) ∧ cFa A u u1 0 0 := by
  obtain ⟨h1, h2, h3, ⟨aS, aT, aI, aB, aM, aSt, aK, aH, a0⟩, k0, k1, k2⟩ := h
  obtain ⟨f1, p1, -⟩ := jpF E
  have cF : cFa A u u1 0 0 := cFa.rfl.wr E (by omega)
  exact ⟨⟨h1.keep cF, h2, jGw.bd (p := 0) (q := 0) cF h3, ⟨aS.cg (fun c a j _ => f1 _ _ _ (by omega)) (fun c a j _ => rfl), aT.cg (fun c a j _ => f1 _ _ _ (by omega)) (fun c a j _ => rfl) (Int.le_refl _), aI.cg fun a j _ => rfl, aB.cg (fun c a j _ => f1 _ _ _ (by omega)) (fun c a j _ => rfl), aM.cg (fun c a j _ => f1 _ _ _ (by omega)) (fun c a j _ => rfl), aSt.cg (fun c a j _ => f1 _ _ _ (by omega)) (fun c a j _ => rfl), aK.cg (fun c a j _ => f1 _ _ _ (by omega)) (fun c a j _ => rfl), a0⟩, ⟨by omega, by omega, p1⟩, hst⟩, cF⟩
/-- what a statement does -/
def stMt (s t : jS) (A H b lo : Int) (NL : List (List Int)) (I : pI) (OL : List pvO) (SL : List pvS) (k : Int) (z : pvS) (xx : Option (jS × Bool × Int)) (yy : Option (jS × Int)) : Prop :=
  (∃ q r, xx = some q ∧ yy = some (r, 0) ∧ aBo s t A H q r) ∨
  (∃ u w v, xx = some (u, false, v) ∧ yy = some (w, 1) ∧ AR u w A H b lo NL I OL SL k z ∧ cFo A s u 0 0 ∧ tF H t w ∧ jf w 41 H 26 ≤ jf t 41 H 26 + 1)
theorem stW.toM (h : stW s t A H b lo NL I OL SL k z xx yy Q) (hq : ∀ u w v, Q u w v → jf w 41 H 26 ≤ jf t 41 H 26 + 1) : stMt s t A H b lo NL I OL SL k z xx yy := by
  rcases h with ⟨q, r, e1, e2, e3⟩ | ⟨u, w, v, e1, e2, e3, e4, e5, e6⟩
  · exact .inl ⟨q, r, e1, e2, e3⟩
  · exact .inr ⟨u, w, v, e1, e2, e3.1, e4, e5, hq _ _ _ e6⟩
theorem stMt.pre (h : stMt u w A H b lo NL I OL SL k z xx yy) (c1 : cFo A s u 0 0) (c2 : tF H t w) (c3 : jf w 41 H 26 = jf t 41 H 26) : stMt s t A H b lo NL I OL SL k z xx yy := by
  rcases h with ⟨q, r, e1, e2, e3⟩ | ⟨u', w', v, e1, e2, e3, e4, e5, e6⟩
  · exact .inl ⟨q, r, e1, e2, e3.after c1 c2⟩
  · exact .inr ⟨u', w', v, e1, e2, e3, (c1.trans e4 : cFo A s u' (0 + 0) (0 + 0)), c2.trans e5, by omega⟩
theorem stMt.finC (h : stMt s t A H b lo NL I OL SL k z xx yy) : stMt s t A H b lo NL I OL SL k z (xx.bind fun q => jth q.2.1 (some (q.1, true, q.2.2)) (some (q.1, false, 0))) yy := by
  rcases h with ⟨q, r, e1, e2, e3⟩ | ⟨u', w', v', d1, d2, d3⟩
  · exact .inl ⟨q, r, by rw [e1, Option.bind_some, e3.th]; rfl, e2, e3⟩
  · exact .inr ⟨u', w', 0, by rw [d1, Option.bind_some]; rfl, d2, d3⟩
theorem stMt.finW (h : stMt s t A H b lo NL I OL SL k z xx yy) : stMt s t A H b lo NL I OL SL k z xx (yy.bind fun q => some (q.1, Wz q.2)) := by
  rcases h with ⟨q, r, e1, e2, e3⟩ | ⟨u', w', v', d1, d2, d3⟩
  · exact .inl ⟨q, r, e1, by rw [e2, Option.bind_some]; exact tw1 r, e3⟩
  · exact .inr ⟨u', w', v', d1, by rw [d2, Option.bind_some, Wz_1], d3⟩
-- labels
theorem lab_def (g : AR s t A H b lo NL I OL SL k z) (i0 : 0 ≤ i) (i1 : i < jf t 41 H 12) (hnc : ∀ d, 0 ≤ d → d < 10 → ¬ jf t 1000 (H + 150) d = i) (hp : jf t 1000 (H + 153) (jf t 41 H 34) = jf t 41 H 47) : (∃ q r, m_X33_define s A i (jf s 37 A 30) (jf s 37 A 32) 0 = some q ∧ ¬ jf t 1000 (H + 144) i = -2 ∧ m_X37_fail t H 16 = some (r, 0) ∧ aBad s t A H q r) ∨ ∃ u v, m_X33_define s A i (jf s 37 A 30) (jf s 37 A 32) 0 = some (u, false, 0) ∧ jf t 1000 (H + 144) i = -2 ∧ m_X37_define t H i (jf t 41 H 34) (jf t 1000 (H + 153) (jf t 41 H 34)) = some (v, 0) ∧ AR u v A H b lo NL I OL SL k z ∧ cFa A s u 0 0 ∧ tF H t v ∧ jf v 41 H 26 = jf t 41 H 26 := by
  obtain ⟨aS, aT, aI, aB, aM, aSt, aK, aH, a0⟩ := g.2.2.2.1
  rw [aB.1.1, aH.2.2.1, hp]
  by_cases c : jf t 1000 (H + 144) i = -2
  · obtain ⟨u', w', e1, e2, e3, e4, e5, e6, e7⟩ := def2 (x := jf t 41 H 34) (y := jf t 41 H 47) g i0 i1 c (by have := aB.1.2; omega) (by have := aH.2.2.2; exact ⟨by omega, by omega⟩) hnc
    exact .inr ⟨u', w', e1, c, e2, e3, e4, e5, e6 _ _ _ (by omega)⟩
  · obtain ⟨q, r, e1, e2, e3⟩ := defBad (x := jf t 41 H 34) (y := jf t 41 H 47) (e := 0) g i0 i1 c
    exact .inl ⟨q, r, e1, c, e2, e3⟩
/-- a label by its name -/
theorem lab2 (h : AR s t A H b lo NL I OL SL k z) (hp : jf t 1000 (H + 153) (jf t 41 H 34) = jf t 41 H 47) (m0 : 0 ≤ m) (m1 : m < NL.length) (mN : NL.length ≤ 150) : stMt s t A H b lo NL I OL SL k z ((m_X33_symbolFor s A m).bind fun q7 => jth q7.2.1 (some (q7.1, true, q7.2.2)) ((m_X33_define q7.1 A q7.2.2 (jf q7.1 37 A 30) (jf q7.1 37 A 32) 0).bind fun q8 => jth q8.2.1 (some (q8.1, true, q8.2.2)) (some (q8.1, false, 0)))) ((m_X37_symbolOfName t H m).bind fun q3 => if q3.2 = (-1) then some (q3.1, Wz 0) else (jlt q3.1 1000 (H + 144) 100 q3.2).bind fun v4 => if v4 = (-2) then (jlt q3.1 1000 (H + 153) 4 (jf q3.1 41 H 34)).bind fun v5 => (m_X37_define q3.1 H q3.2 (jf q3.1 41 H 34) v5).bind fun q6 => some (q6.1, Wz 1) else (m_X37_fail q3.1 H 16).bind fun q7 => some (q7.1, Wz q7.2)) := by
  rcases symFor2 h m0 m1 mN with ⟨q, r, e1, e2, e3⟩ | ⟨u, w, i, e1, e2, e3, e4, e5, ⟨e6, e7⟩, e8, e9, e10, e11⟩
  · refine .inl ⟨q, r, by rw [e1, Option.bind_some, e3.th]; rfl, by rw [e2, Option.bind_some, if_pos rfl, Wz_0], e3.out⟩
  rw [e1, e2, Option.bind_some, Option.bind_some]
  have n100 := e3.n100
  have b0 := e3.2.2.2.1.2.2.2.1.1.2
  dsimp only
  rw [jth_ff, if_neg (by omega), jlt_in e6 (by omega), Option.bind_some, jlt_in b0.1 (by omega), Option.bind_some]
  have hn : 0 ≤ jf w 1000 (H + 143) i := by
    have := e3.2.2.2.1.2.2.1.1 m m0 m1 (by omega)
    rw [e8] at this; omega
  rcases lab_def e3 e6 e7 (e3.nk e6 hn) (by rw [e10 _ _ _ (by omega) (by omega), e10 _ _ _ (by omega) (by omega), e10 _ _ _ (by omega) (by omega)]; exact hp) with ⟨q, r, d1, d2, d3, d4⟩ | ⟨u', w', d1, d2, d3, d4, d5, d6, d7⟩
  · rw [d1, d3, Option.bind_some, Option.bind_some, if_neg d2, d4.th]
    refine .inl ⟨q, r, ?_, by rw [Wz_0], (d4.after e4 e5).out⟩
    show some (q.1, true, q.2.2) = some q
    rw [← d4.th]
  · rw [d1, d3, Option.bind_some, Option.bind_some, if_pos d2, Wz_1]
    exact .inr ⟨u', w', 0, rfl, rfl, d4, (e4.tr0 d5).o, e5.trans d6, by rw [d7, e10 _ _ _ (by omega) (by omega)]; omega⟩
end jState
