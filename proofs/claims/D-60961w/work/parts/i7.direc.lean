/-! directives: sections, bindings, numbers given to names *-/
section jDirec
variable {s t u w : jS} {v A H b lo W k c a hh x y m f d n o j i e : Int} {l : List Int} {NL : List (List Int)} {I : pI} {OL : List pvO} {SL : List pvS} {z : pvS} {zo : pvO} {Q Q' : jS → jS → Int → Prop}
/-- no instruction begun -/
def dQ (t : jS) (H : Int) : jS → jS → Int → Prop := fun _ w _ => jf w 41 H 26 = jf t 41 H 26
/-- a fault that both sides tell at once -/
theorem stO.bad0 (h : AG s t A H b lo NL I OL SL k z) (ho : ¬ o = 0) {f : jS × Bool × Int → Option (jS × Bool × Int)} (hf : ∀ u d, f (u, true, d) = some (u, true, d)) : stO s t A H b lo NL I OL SL k z ((m_X33_need s A 0 o).bind f) ((m_X37_fail t H o).bind fun q1 => some (q1.1, Wz q1.2)) Q := .bad h ho hf tw1
theorem cF1 {u1 : jS} (e : u1 = jp s c a k x) (ha : A ≤ a ∧ a ≤ A + 126) : cFa A s u1 0 0 := cFa.rfl.wr e ha
theorem section2 (h : AG s t A H b lo NL I OL SL k z) (x0 : 0 ≤ x) (x3 : x ≤ 3) (hy : y = 100 + x) : stO s t A H b lo NL I OL SL k z (m_X33_section s A x) (u_X37_directive_76 t H y) (dQ t H) := by
  rw [em_X33_section, eu_X37_directive_76]; unfold dm_X33_section du_X37_directive_76
  have n0 := h.1.stg.2.2.2.2.1
  rw [h.2.1.2.2.1, h.2.1.2.2.2, eu_X33_section_13]; unfold du_X33_section_13
  by_cases c : z.2.2.2.1 = 0
  rotate_left
  · rw [if_neg c, if_pos (by omega)]
    exact .bad0 h (by decide) fun _ _ => rfl
  rw [if_pos c, if_neg (by omega), needOk (by decide)]
  dsimp only
  rw [jth_ff]
  simp only [jls]
  obtain ⟨u1, E1⟩ : ∃ u1, u1 = jp s 37 A 30 x := ⟨_, rfl⟩
  obtain ⟨w1, G1⟩ : ∃ w1, w1 = jp t 41 H 34 x := ⟨_, rfl⟩
  obtain ⟨f1, p1, -⟩ := jpF E1
  obtain ⟨g1, r1, -⟩ := jpF G1
  rw [← E1, W32_in (by omega) (by omega), show y - 100 = x by omega, ← G1, Wz_1]
  obtain ⟨aS, aT, aI, ⟨aB1, aB2, aB3⟩, aM, aSt, aK, aH, a0⟩ := h.1.2.2.2.1
  have cF := cF1 (A := A) E1 (by omega)
  have tf : tF H t w1 := tF.rfl.wr G1 (by omega)
  have R : AR u1 w1 A H b lo NL I OL SL k z := h.1.mk cF tf ⟨aS.cg (fun c a j _ => f1 _ _ _ (by omega)) (fun c a j _ => g1 _ _ _ (by omega)), aT.cg (fun c a j _ => f1 _ _ _ (by omega)) (fun c a j _ => g1 _ _ _ (by omega)) (by rw [g1 _ _ _ (by omega)]; omega), aI.cg fun a j _ => g1 _ _ _ (by omega), ⟨by rw [p1, r1]; exact ⟨rfl, x0, x3⟩, fun k' k0 k1 => by rw [f1 _ _ _ (by omega), g1 _ _ _ (by omega), f1 _ _ _ (by omega), g1 _ _ _ (by omega)]; exact aB2 k' k0 k1, fun s' k' s0 s1 k0 k1 => by rw [g1 _ _ _ (by omega)] at k1; rw [f1 _ _ _ (by omega), g1 _ _ _ (by omega)]; exact aB3 s' k' s0 s1 k0 k1⟩, aM.cg (fun c a j _ => f1 _ _ _ (by omega)) (fun c a j _ => g1 _ _ _ (by omega)), aSt.cg (fun c a j _ => f1 _ _ _ (by omega)) (fun c a j _ => g1 _ _ _ (by omega)), aK.cg (fun c a j _ => f1 _ _ _ (by omega)) (fun c a j _ => g1 _ _ _ (by omega)), aH.cg (fun c a j _ => f1 _ _ _ (by omega)) (fun c a j _ => g1 _ _ _ (by omega)) (by rw [g1 _ _ _ (by omega)]; omega), by rw [g1 _ _ _ (by omega)]; exact a0⟩
  exact .inr ⟨u1, w1, 0, rfl, rfl, h.bk R ⟨f1 _ _ _ (by omega), f1 _ _ _ (by omega)⟩ ⟨g1 _ _ _ (by omega), g1 _ _ _ (by omega)⟩, cF, tf, g1 _ _ _ (by omega)⟩
/-- a symbol is changed -/
theorem AR.symw (h : AR s t A H b lo NL I OL SL k z) (i0 : 0 ≤ i) (i1 : i < jf t 41 H 12) (fu : ∀ c a k, ¬ (c = 38 ∧ a = A + 1 + 26 + 1 * i) → jf u c a k = jf s c a k) (cF : cFa A s u 0 0) (gv : ∀ c a k, ¬ (c = 1000 ∧ H + 144 ≤ a ∧ a ≤ H + 147 ∧ k = i) → jf w c a k = jf t c a k) (tf : tF H t w) (h1 : aS1 (jf u) (jf w) A H NL.length i) (hc : jf w 1000 (H + 144) i = jf t 1000 (H + 144) i ∨ ∀ d, 0 ≤ d → d < 10 → ¬ jf t 1000 (H + 150) d = i) : AR u w A H b lo NL I OL SL k z := by
  obtain ⟨⟨e25, c0, e26, c1, eS⟩, aT, aI, aB, aM, aSt, aK, aH, a0⟩ := h.2.2.2.1
  refine h.mk cF tf ⟨⟨by rw [fu _ _ _ (by omega), gv _ _ _ (by omega)]; exact e25, by rw [gv _ _ _ (by omega)]; exact c0, by rw [fu _ _ _ (by omega), gv _ _ _ (by omega)]; exact e26, by rw [gv _ _ _ (by omega), gv _ _ _ (by omega)]; exact c1, fun j j0 j1 => ?_⟩, aT.cg (fun c a j _ => fu _ _ _ (by omega)) (fun c a j _ => gv _ _ _ (by omega)) (by rw [gv _ _ _ (by omega)]; omega), ⟨fun j j0 j1 j2 => ?_, fun j j0 j1 j2 => ?_, fun j e j0 j1 e0 e1 => ?_⟩, aB.cg (fun c a j _ => fu _ _ _ (by omega)) (fun c a j _ => gv _ _ _ (by omega)), aM.cg (fun c a j _ => fu _ _ _ (by omega)) (fun c a j _ => gv _ _ _ (by omega)), aSt.cg (fun c a j _ => fu _ _ _ (by omega)) (fun c a j _ => gv _ _ _ (by omega)), aK.cg (fun c a j _ => fu _ _ _ (by omega)) (fun c a j _ => gv _ _ _ (by omega)), aH.cg (fun c a j _ => fu _ _ _ (by omega)) (fun c a j _ => gv _ _ _ (by omega)) (by rw [gv _ _ _ (by omega)]; omega), by rw [gv _ _ _ (by omega)]; exact a0⟩
  · rw [gv _ _ _ (by omega)] at j1
    by_cases cj : j = i
    · subst cj; exact h1
    · refine (eS j j0 j1).cg (fun k => fu _ _ _ (by omega)) (fun a a0 a1 => gv _ _ _ (by omega))
  · rw [gv 1000 (H + 148) j (by omega)] at j2 ⊢
    rw [gv 1000 (H + 143) _ (by omega)]; exact aI.1 j j0 j1 j2
  · rw [gv 1000 (H + 150) j (by omega)] at j2 ⊢
    obtain ⟨q1, q2⟩ := aI.2.1 j j0 j1 j2
    rw [gv 1000 (H + 143) _ (by omega)]
    refine ⟨q1, ?_⟩
    by_cases cj : jf t 1000 (H + 150) j = i
    · rcases hc with hc | hc
      · rw [cj, hc, ← cj]; exact q2
      · exact absurd cj (hc j j0 j1)
    · rw [gv _ _ _ (by omega)]; exact q2
  · rw [gv 1000 (H + 150) j (by omega), gv 1000 (H + 150) e (by omega)]; exact aI.2.2 j e j0 j1 e0 e1
theorem aS1.at (h : AR s t A H b lo NL I OL SL k z) (i0 : 0 ≤ i) (i1 : i < jf t 41 H 12) : aS1 (jf s) (jf t) A H NL.length i := h.2.2.2.1.1.2.2.2.2 i i0 i1
theorem AR.n100 (h : AR s t A H b lo NL I OL SL k z) : jf t 41 H 12 ≤ 100 := h.2.2.2.1.1.2.1.2
theorem syU.arg (h : syU A s u) : jf u 37 A 34 = jf s 37 A 34 ∧ jf u 37 A 35 = jf s 37 A 35 := ⟨h _ _ _ (by omega) (by omega) (by omega), h _ _ _ (by omega) (by omega) (by omega)⟩
theorem syV.arg (h : syV H t w) : jf w 41 H 45 = jf t 41 H 45 ∧ jf w 41 H 46 = jf t 41 H 46 := ⟨h _ _ _ (by omega) (by omega), h _ _ _ (by omega) (by omega)⟩
/-- a name's symbol, in a step -/
theorem symFor_st {F : jS × Bool × Int → Option (jS × Bool × Int)} {G : jS × Int → Option (jS × Int)} (h : AG s t A H b lo NL I OL SL k z) (m0 : 0 ≤ m) (m1 : m < NL.length) (hf : ∀ u d, F (u, true, d) = some (u, true, d)) (hg : ∀ r, G (r, -1) = some (r, 0)) (hc : ∀ u w i, AG u w A H b lo NL I OL SL k z → cFa A s u 0 0 → tF H t w → 0 ≤ i → i < jf w 41 H 12 → jf w 1000 (H + 148) m = i → syU A s u → syV H t w → stO u w A H b lo NL I OL SL k z (F (u, false, i)) (G (w, i)) Q) : stO s t A H b lo NL I OL SL k z ((m_X33_symbolFor s A m).bind F) ((m_X37_symbolOfName t H m).bind G) Q := by
  rcases symFor2 h.1 m0 m1 h.2.2 with ⟨q, r, e1, e2, e3⟩ | ⟨u, w, i, e1, e2, e3, e4, e5, ⟨e6, e7⟩, e8, e9, e10, e11⟩
  · refine .inl ⟨q, r, ?_, ?_, e3⟩
    · rw [e1, Option.bind_some, e3.th]; exact hf _ _
    · rw [e2, Option.bind_some]; exact hg _
  · rw [e1, e2, Option.bind_some, Option.bind_some]
    rcases hc u w i (h.bk e3 e9.arg e10.arg) e4 e5 e6 e7 e8 e9 e10 with ⟨q, r, d1, d2, d3⟩ | ⟨u', w', v', d1, d2, d3, d4, d5, d6⟩
    · exact .inl ⟨q, r, d1, d2, d3.after e4 e5⟩
    · exact .inr ⟨u', w', v', d1, d2, d3, (e4.trans d4 : cFa A s u' (0 + 0) (0 + 0)), e5.trans d5, d6⟩
theorem bound2 (h : AG s t A H b lo NL I OL SL k z) (hx : x = 0 ∧ y = 1 ∨ x = 1 ∧ y = 2) : stO s t A H b lo NL I OL SL k z (m_X33_bound s A x) (m_X37_bind t H y) (dQ t H) := by
  rw [em_X33_bound, em_X37_bind]; unfold dm_X33_bound dm_X37_bind
  rw [h.2.1.2.2.1, h.2.1.2.2.2]
  have bd : stO s t A H b lo NL I OL SL k z (u_X33_bound_21 s A x A) (u_X37_bind_16 t H) (dQ t H) := by
    rw [eu_X33_bound_21, eu_X37_bind_16]; unfold du_X33_bound_21 du_X37_bind_16
    rw [eu_X33_bound_22]; unfold du_X33_bound_22
    exact .bad0 h (by decide) fun _ _ => rfl
  by_cases c : z.2.2.2.1 = 1
  rotate_left
  · rw [if_neg c, if_neg c]; exact bd
  rw [if_pos c, if_pos c, c_isNm h (by decide) (by omega), Option.bind_some, y_isN h (by decide) (by omega), Option.bind_some]
  dsimp only
  by_cases cn : nmOp I (tO OL (z.2.2.1 + 0))
  rotate_left
  · have e0 : (if nmOp I (tO OL (z.2.2.1 + 0)) then (1 : Int) else 0) = 0 := if_neg cn
    rw [e0, if_pos rfl, if_pos rfl]; exact bd
  have e0 : (if nmOp I (tO OL (z.2.2.1 + 0)) then (1 : Int) else 0) = 1 := if_pos cn
  rw [e0, if_neg n10, if_neg n10, y_nmAt h (by decide) (by omega) cn, Option.bind_some, eu_X33_bound_22]; unfold du_X33_bound_22
  rw [needOk (by decide)]
  dsimp only
  rw [jth_ff, c_nmOf h (by decide) (by omega) cn, Option.bind_some]
  obtain ⟨m0, m1⟩ := opNm_in h (by decide) (by omega) cn
  refine symFor_st h m0 m1 (fun _ _ => rfl) (fun r => by dsimp only; rw [if_pos rfl, Wz_0]) fun u w i g c1 c2 i0 i1 hi sU sV => ?_
  have n100 := g.1.n100
  have S := aS1.at g.1 i0 i1
  obtain ⟨q1, q2, q3, q4, q5, q6, q7, q8, q9, q10, q11⟩ := S
  dsimp only
  rw [jth_ff, if_neg (by omega), jix_in i0 (by omega), Option.bind_some, jlt_in i0 (by omega), Option.bind_some]
  have q3' : jf w 1000 (H + 144) i = 5 ↔ jf u 38 (A + 1 + 26 + 1 * i) 1 = 5 := by
    rw [q3]; split <;> omega
  have go : stO u w A H b lo NL I OL SL k z (u_X33_bound_60 u x (A + 1 + 26 + 1 * i) 1 A) (u_X37_bind_62 w H y i) (dQ t H) := by
    rw [eu_X33_bound_60, eu_X37_bind_62]; unfold du_X33_bound_60 du_X37_bind_62
    rw [needOk (by decide)]
    dsimp only
    rw [jth_ff, jzb_in (by omega), Option.bind_some, jzb_in (.inr rfl)]
    simp only [jls, Option.bind_some]
    obtain ⟨u1, E1⟩ : ∃ u1, u1 = jp u 38 (A + 1 + 26 + 1 * i) 5 x := ⟨_, rfl⟩
    obtain ⟨u2, E2⟩ : ∃ u2, u2 = jp u1 38 (A + 1 + 26 + 1 * i) 4 1 := ⟨_, rfl⟩
    obtain ⟨w1, G1⟩ : ∃ w1, w1 = jp w 1000 (H + 147) i y := ⟨_, rfl⟩
    obtain ⟨f1, p1, -⟩ := jpF E1
    obtain ⟨f2, p2, -⟩ := jpF E2
    obtain ⟨g1, r1, -⟩ := jpF G1
    rw [← E1, ← E2, jst_in i0 (by omega), Option.bind_some, ← G1, Wz_1]
    have cF : cFa A u u2 0 0 := (cF1 (A := A) E1 (by omega)).wr E2 (by omega)
    have tf : tF H w w1 := tF.rfl.wr G1 (by omega)
    have R : AR u2 w1 A H b lo NL I OL SL k z := g.1.symw i0 i1 (fun c a k hc => by rw [f2 _ _ _ (by omega), f1 _ _ _ (by omega)]) cF (fun c a k hc => g1 _ _ _ (by omega)) tf (by
      unfold aS1
      rw [f2 _ _ 0 (by omega), f1 _ _ 0 (by omega), f2 _ _ 1 (by omega), f1 _ _ 1 (by omega), f2 _ _ 2 (by omega), f1 _ _ 2 (by omega), f2 _ _ 3 (by omega), f1 _ _ 3 (by omega), p2, f2 _ _ 5 (by omega), p1, g1 1000 (H + 143) i (by omega), g1 1000 (H + 144) i (by omega), g1 1000 (H + 145) i (by omega), g1 1000 (H + 146) i (by omega), r1]
      refine ⟨q1, q2, q3, q4, q5, q6, q7, q8, .inr rfl, by omega, ?_⟩
      rcases hx with ⟨a1, a2⟩ | ⟨a1, a2⟩
      · rw [a1, a2, if_neg (by decide), if_pos rfl]
      · rw [a1, a2, if_pos rfl]) (.inl (g1 _ _ _ (by omega)))
    exact .inr ⟨u2, w1, 0, rfl, rfl, g.bk R ⟨by rw [f2 _ _ _ (by omega), f1 _ _ _ (by omega)], by rw [f2 _ _ _ (by omega), f1 _ _ _ (by omega)]⟩ ⟨g1 _ _ _ (by omega), g1 _ _ _ (by omega)⟩, cF, tf, by show jf w1 41 H 26 = jf t 41 H 26; rw [g1 _ _ _ (by omega)]; exact sV _ _ _ (by omega) (by omega)⟩
  rcases hx with ⟨a1, a2⟩ | ⟨a1, a2⟩
  · rw [if_pos a1, if_neg (by omega), eu_X33_bound_55]; unfold du_X33_bound_55
    exact go
  · rw [if_neg (by omega), if_pos a2]
    by_cases c5 : jf u 38 (A + 1 + 26 + 1 * i) 1 = 5
    · rw [if_pos c5, if_pos (q3'.mpr c5), eu_X33_bound_60]; unfold du_X33_bound_60
      exact .bad0 g (by decide) fun _ _ => rfl
    · rw [if_neg c5, if_neg fun e => c5 (q3'.mp e), eu_X33_bound_55]; unfold du_X33_bound_55
      exact go
end jDirec
