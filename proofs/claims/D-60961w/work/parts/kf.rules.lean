/-! the linker: globals that are given by a rule, both sides -/
set_option maxRecDepth 100000
section jRules
variable {s t u w r q' : jS} {a b g k m n p v l x y z c j X f i H C P Q P' Q' S : Int} {O : Int → Int → Int → Int → Int} {d e : Int → Int → Int} {E V : Int → Int} {R : Type}
noncomputable def rlN (V : Int → Int) : Int := @ite _ (nmE V (cS 165)) (Classical.propDecidable _) 1 (@ite _ (nmE V (cS 166)) (Classical.propDecidable _) 2 (@ite _ (nmE V (cS 167)) (Classical.propDecidable _) 3 (@ite _ (nmE V (cS 168)) (Classical.propDecidable _) 4 (@ite _ (nmE V (cS 169)) (Classical.propDecidable _) 5 0))))
theorem rlN_lo : 0 ≤ rlN V ∧ rlN V ≤ 5 := by
  unfold rlN
  split
  · decide
  split
  · decide
  split
  · decide
  split
  · decide
  split <;> decide
/-- rules, below p; z for none -/
noncomputable def rlP (O : Int → Int → Int → Int → Int) (e : Int → Int → Int) (z p : Int) : Int → Int → Int := fun f k => if f = 3 ∧ k < p ∧ e 3 k = 0 then (if 0 < rlN (sy O (e 2 k)) then 3 else z) else if f = 7 ∧ k < p ∧ e 3 k = 0 then rlN (sy O (e 2 k)) else e f k
theorem rlP_no (h : ¬ ((f = 3 ∨ f = 7) ∧ k < p)) : rlP O e z p f k = e f k := by unfold rlP; rw [if_neg (by omega), if_neg (by omega)]
theorem rlP_f (h : ¬ (f = 3 ∨ f = 7)) : rlP O e z p f k = e f k := rlP_no (by omega)
theorem rlP_3 : rlP O e z p 3 k = if k < p ∧ e 3 k = 0 then (if 0 < rlN (sy O (e 2 k)) then 3 else z) else e 3 k := by
  unfold rlP
  by_cases c : k < p ∧ e 3 k = 0
  · rw [if_pos ⟨rfl, c⟩, if_pos c]
  · rw [if_neg (fun q => c q.2), if_neg (by omega), if_neg c]
theorem rlP_7 : rlP O e z p 7 k = if k < p ∧ e 3 k = 0 then rlN (sy O (e 2 k)) else e 7 k := by
  unfold rlP
  rw [if_neg (by omega)]
  by_cases c : k < p ∧ e 3 k = 0
  · rw [if_pos ⟨rfl, c⟩, if_pos c]
  · rw [if_neg (fun q => c q.2), if_neg c]
theorem rlP_e (hk : ¬ k = p) : rlP O e z (p + 1) f k = rlP O e z p f k := by
  unfold rlP
  have h1 : (f = 3 ∧ k < p + 1 ∧ e 3 k = 0) ↔ (f = 3 ∧ k < p ∧ e 3 k = 0) := by omega
  have h2 : (f = 7 ∧ k < p + 1 ∧ e 3 k = 0) ↔ (f = 7 ∧ k < p ∧ e 3 k = 0) := by omega
  by_cases c1 : f = 3 ∧ k < p ∧ e 3 k = 0
  · rw [if_pos (h1.mpr c1), if_pos c1]
  · have n1 : ¬ (f = 3 ∧ k < p + 1 ∧ e 3 k = 0) := fun z => c1 (h1.mp z)
    rw [if_neg n1, if_neg c1]
    by_cases c2 : f = 7 ∧ k < p ∧ e 3 k = 0
    · rw [if_pos (h2.mpr c2), if_pos c2]
    · have n2 : ¬ (f = 7 ∧ k < p + 1 ∧ e 3 k = 0) := fun z => c2 (h2.mp z)
      rw [if_neg n2, if_neg c2]
theorem rlP_same (hn : ¬ (e 3 p = 0 ∧ 0 < rlN (sy O (e 2 p)))) (hf : ¬ f = 7) : rlP O e 0 (p + 1) f k = rlP O e 0 p f k := by
  by_cases ck : k = p
  rotate_left
  · exact rlP_e ck
  by_cases c3 : f = 3
  · rw [c3, ck, rlP_3, rlP_3]
    have n2 : ¬ (p < p ∧ e 3 p = 0) := fun z => by omega
    rw [if_neg n2]
    by_cases c : p < p + 1 ∧ e 3 p = 0
    · have n3 : ¬ 0 < rlN (sy O (e 2 p)) := fun z => hn ⟨c.2, z⟩
      rw [if_pos c, if_neg n3, c.2]
    · rw [if_neg c]
  · rw [rlP_f (by omega), rlP_f (by omega)]
theorem gFv.rl (h : gFv S O e) (hz : z = 0 ∨ z = 4) : gFv S O (rlP O e z (e 0 0)) := by
  obtain ⟨⟨n0, n1, n2⟩, h2, h3⟩ := h
  refine ⟨⟨by rw [rlP_f (by decide)]; exact n0, by rw [rlP_f (by decide)]; exact n1, fun j i j0 j1 i1 => by rw [rlP_f (by decide), rlP_f (by decide)]; rw [rlP_f (by decide)] at i1; exact n2 j i j0 j1 i1⟩, fun g g0 g1 => ?_, fun x hx => by rw [rlP_f (by decide), rlP_f (by decide)]; exact h3 x hx⟩
  rw [rlP_f (by decide)] at g1
  obtain ⟨a1, a2, a3, a4, a5⟩ := h2 g g0 g1
  have hr := rlN_lo (V := sy O (e 2 g))
  rw [rlP_f (f := 2) (by decide), rlP_f (f := 4) (by decide), rlP_f (f := 5) (by decide), rlP_f (f := 6) (by decide), rlP_f (f := 1) (by decide), rlP_f (f := 1) (by decide), rlP_3, rlP_7]
  by_cases c : g < e 0 0 ∧ e 3 g = 0
  · rw [if_pos c, if_pos c]
    by_cases c2 : 0 < rlN (sy O (e 2 g))
    · rw [if_pos c2]
      exact ⟨a1, by decide, fun q => absurd q (by decide), fun q => absurd q (by decide), fun _ => by omega⟩
    · rw [if_neg c2]
      exact ⟨a1, by omega, fun q => by omega, fun q => by omega, fun q => by omega⟩
  · rw [if_neg c, if_neg c]
    exact ⟨a1, a2, a3, a4, a5⟩
theorem c_givenFor (h : lkB C H S O s t) (hP : pCon s) (hg : (0 ≤ g ∧ g < 600) ∧ jf s 1000 (C + 4275 + 15) g = x / 100 ∧ jf s 1000 (C + 4275 + 16) g = x % 100) (hx : vsy S O x) : m_X35_givenFor s (C + 4275) g = some (rlN (sy O x) - 1) := by
  have L : ∀ i : Nat, i = 165 ∨ i = 166 ∨ i = 167 ∨ i = 168 ∨ i = 169 → (cS i).length ≤ 16 ∧ i < 202 := fun i hi => by
    rcases hi with rfl | rfl | rfl | rfl | rfl <;> decide +kernel
  have N : ∀ i : Nat, i = 165 ∨ i = 166 ∨ i = 167 ∨ i = 168 ∨ i = 169 → ∃ r, m_X35_isNamed s (C + 4275) g (jc s i) = some r ∧ (r = 0 ∨ r = 1) ∧ (r = 1 ↔ nmE (sy O x) (cS i)) := fun i hi => c_isNamed h (hP.str (L i hi).2) (L i hi).1 hg hx
  obtain ⟨r1, e1, d1, i1⟩ := N 165 (by omega)
  obtain ⟨r2, e2, d2, i2⟩ := N 166 (by omega)
  obtain ⟨r3, e3, d3, i3⟩ := N 167 (by omega)
  obtain ⟨r4, e4, d4, i4⟩ := N 168 (by omega)
  obtain ⟨r5, e5, d5, i5⟩ := N 169 (by omega)
  rw [em_X35_givenFor]; unfold dm_X35_givenFor rlN
  have e1' : m_X35_isNamed s (C + 4275) g (jc s 165) = some r1 := e1
  have e2' : m_X35_isNamed s (C + 4275) g (jc s 166) = some r2 := e2
  have e3' : m_X35_isNamed s (C + 4275) g (jc s 167) = some r3 := e3
  have e4' : m_X35_isNamed s (C + 4275) g (jc s 168) = some r4 := e4
  have e5' : m_X35_isNamed s (C + 4275) g (jc s 169) = some r5 := e5
  rw [e1', Option.bind_some]
  by_cases c1 : nmE (sy O x) (cS 165)
  · rw [if_neg (by have := i1.mpr c1; omega), if_pos c1]; rfl
  rw [if_pos (by rcases d1 with z | z; exact z; exact absurd (i1.mp z) c1), if_neg c1, e2', Option.bind_some]
  by_cases c2 : nmE (sy O x) (cS 166)
  · rw [if_neg (by have := i2.mpr c2; omega), if_pos c2]; rfl
  rw [if_pos (by rcases d2 with z | z; exact z; exact absurd (i2.mp z) c2), if_neg c2, e3', Option.bind_some]
  by_cases c3 : nmE (sy O x) (cS 167)
  · rw [if_neg (by have := i3.mpr c3; omega), if_pos c3]; rfl
  rw [if_pos (by rcases d3 with z | z; exact z; exact absurd (i3.mp z) c3), if_neg c3, e4', Option.bind_some]
  by_cases c4 : nmE (sy O x) (cS 168)
  · rw [if_neg (by have := i4.mpr c4; omega), if_pos c4]; rfl
  rw [if_pos (by rcases d4 with z | z; exact z; exact absurd (i4.mp z) c4), if_neg c4, e5', Option.bind_some]
  by_cases c5 : nmE (sy O x) (cS 169)
  · rw [if_neg (by have := i5.mpr c5; omega), if_pos c5]; rfl
  · rw [if_pos (by rcases d5 with z | z; exact z; exact absurd (i5.mp z) c5), if_neg c5]; rfl
theorem pCon.lf (h : pCon s) (h0 : 0 ≤ C) (hK : ∀ a, C ≤ a → a < C + 15464 → jK s a < 3000 ∧ ¬ (70 ≤ jK s a ∧ jK s a ≤ 77)) (g : cLF C s u P Q) : pCon u := h.keep g.1 fun a ha => lkA_in h0 hK ha
/-- constants while linking -/
def cKdl (C : Int) (s : jS) : Prop := pCon s ∧ ∀ a, C ≤ a → a < C + 15464 → jK s a < 3000 ∧ ¬ (70 ≤ jK s a ∧ jK s a ≤ 77)
theorem cKdl.lf (h : cKdl C s) (h0 : 0 ≤ C) (hn : C + 15464 ≤ jn s) (g : cLF C s u P Q) : cKdl C u := ⟨h.1.lf h0 h.2 g, fun a a0 a1 => by rw [g.1.K (by omega)]; exact h.2 a a0 a1⟩
theorem cKdl.gA (h : cKdl C s) (h0 : 0 ≤ C) (hn : C + 15464 ≤ jn s) (g : jGw s u P Q (lkA C s)) : cKdl C u := ⟨h.1.keep g fun a ha => lkA_in h0 h.2 ha, fun a a0 a1 => by rw [g.K (by omega)]; exact h.2 a a0 a1⟩
theorem c_rulesL (h : lkB C H S O s t) (hP : cKdl C s) (hg : gFc C S O s e) (hV : gFv S O e) : ∃ w, u_X35_meanRest_118 s (C + 4275) = u_X35_meanRest_165 w (C + 4275) ∧ gFc C S O w (rlP O e 0 (e 0 0)) ∧ gW C s w := by
  rw [eu_X35_meanRest_118]; unfold du_X35_meanRest_118
  rw [eu_X35_meanRest_120]; unfold du_X35_meanRest_120
  obtain ⟨⟨n0, n1, -⟩, v2, -⟩ := id hV
  have C0 := h.1
  obtain ⟨w, ew, w1, w2⟩ := loopTo (C := jc2 b_X35_meanRest_120) (fun p w => gFc C S O w (rlP O e 0 p) ∧ gW C s w) (fun p => [C + 4275, p]) 0 (e 0 0) n0 (s := s) (F := fun w => u_X35_meanRest_165 w (C + 4275)) ⟨by
    have : ∀ f k, 0 ≤ k → rlP O e 0 0 f k = e f k := fun f k k0 => rlP_no (by omega)
    obtain ⟨g1, g2, g3⟩ := hg
    refine ⟨by rw [this _ _ (by decide)]; exact g1, fun x hx => by rw [this _ _ hx.1.1]; exact g2 x hx, fun g g0 gl => ?_⟩
    rw [this _ _ (by decide)] at gl
    rw [this 2 _ g0, this 3 _ g0, this 4 _ g0, this 5 _ g0, this 6 _ g0, this 7 _ g0]
    exact g3 g g0 gl, gW.rfl⟩ (fun p w p0 p1 ⟨j1, j2⟩ => by
    have hB := h.gw j2
    have hPw := hP.lf C0.1 C0.2 j2.lf
    obtain ⟨q1, q2, q3⟩ := id j1
    obtain ⟨⟨a1, a2⟩, a3, a4, a5, a6, a7⟩ := q3 p p0 (by rw [rlP_f (by decide)]; exact p1)
    obtain ⟨⟨b1, b2⟩, b3, b4⟩ := v2 p p0 p1
    have F2 : ∀ k, rlP O e 0 p 2 k = e 2 k := fun k => rlP_f (by decide)
    rw [F2] at a1 a2
    rw [rlP_no (by omega)] at a3
    have wp : W32 (p + 1) = p + 1 := W32_in (by omega) (by omega)
    show ∃ w', b_X35_meanRest_120 w (C + 4275) p = some (.inl (w', [C + 4275, p + 1])) ∧ _
    unfold b_X35_meanRest_120
    rw [q1, rlP_f (by decide), if_pos p1, jlt_in p0 (by omega), Option.bind_some, a3, eu_X35_meanRest_159]; unfold du_X35_meanRest_159
    rw [wp]
    have stay : ¬ (e 3 p = 0 ∧ 0 < rlN (sy O (e 2 p))) → gFc C S O w (rlP O e 0 (p + 1)) := fun hn => by
      have E : ∀ f k, 0 ≤ k → ¬ (f = 7 ∧ k = p) → rlP O e 0 (p + 1) f k = rlP O e 0 p f k := fun f k k0 hk => by
        by_cases c : k = p
        · exact rlP_same hn fun z => hk ⟨z, c⟩
        · exact rlP_e c
      refine ⟨by rw [E _ _ (by decide) (by omega)]; exact q1, fun x hx => by rw [E _ _ hx.1.1 (by omega)]; exact q2 x hx, fun g g0 gl => ?_⟩
      rw [E _ _ (by decide) (by omega)] at gl
      obtain ⟨c1, c2, c3, c4, c5, c6⟩ := q3 g g0 gl
      rw [E 2 _ g0 (by omega), E 3 _ g0 (by omega), E 4 _ g0 (by omega), E 5 _ g0 (by omega), E 6 _ g0 (by omega)]
      refine ⟨c1, c2, c3, fun z => ?_, c5, c6⟩
      by_cases c : g = p
      · rw [c, rlP_no (by omega)] at z
        have hz : ¬ (p < p + 1 ∧ e 3 p = 0) := fun q => by omega
        rw [c] at c4
        rw [c, rlP_7, if_neg hz]
        rw [rlP_no (by omega), rlP_no (by omega)] at c4
        exact c4 z
      · rw [E 7 _ g0 (by omega)]; exact c4 z
    by_cases c0 : e 3 p = 0
    rotate_left
    · rw [if_neg (fun z => c0 ((hC_4 b3.1 b3.2).mp z))]
      exact ⟨w, rfl, stay fun z => c0 z.1, j2⟩
    rw [if_pos ((hC_4 b3.1 b3.2).mpr c0), c_givenFor hB hPw.1 ⟨⟨p0, by omega⟩, a1, a2⟩ b1.1, Option.bind_some, Option.bind_some]
    have hr := rlN_lo (V := sy O (e 2 p))
    by_cases c1 : 0 < rlN (sy O (e 2 p))
    rotate_left
    · rw [if_pos (by omega)]
      exact ⟨w, rfl, stay fun z => c1 z.2, j2⟩
    rw [if_neg (by omega), em_X35_means]; unfold dm_X35_means
    rw [jst_in p0 (by omega), Option.bind_some, jst_in p0 (by omega), Option.bind_some, jst_in p0 (by omega), Option.bind_some, Option.bind_some]
    obtain ⟨y1, Y1⟩ : ∃ y1, y1 = jp w 1000 (C + 4275 + 17) p 2 := ⟨_, rfl⟩
    obtain ⟨f1, p1', -⟩ := jpF Y1
    obtain ⟨y2, Y2⟩ : ∃ y2, y2 = jp y1 1000 (C + 4275 + 18) p (-1) := ⟨_, rfl⟩
    obtain ⟨f2, p2, -⟩ := jpF Y2
    obtain ⟨y3, Y3⟩ : ∃ y3, y3 = jp y2 1000 (C + 4275 + 19) p (rlN (sy O (e 2 p)) - 1) := ⟨_, rfl⟩
    obtain ⟨f3, p3, -⟩ := jpF Y3
    rw [← Y1, ← Y2, ← Y3]
    have FY : ∀ c a k, ¬ (c = 1000 ∧ C + 4275 + 17 ≤ a ∧ a ≤ C + 4275 + 19 ∧ k = p) → jf y3 c a k = jf w c a k := fun c a k q => by rw [f3 _ _ _ (by omega), f2 _ _ _ (by omega), f1 _ _ _ (by omega)]
    have E : ∀ f k, 0 ≤ k → ¬ k = p → rlP O e 0 (p + 1) f k = rlP O e 0 p f k := fun f k _ hk => rlP_e hk
    have E' : ∀ f k, ¬ (f = 3 ∨ f = 7) → rlP O e 0 (p + 1) f k = rlP O e 0 p f k := fun f k hf => by rw [rlP_f hf, rlP_f hf]
    refine ⟨y3, rfl, ⟨by rw [E' _ _ (by decide), FY _ _ _ (by omega)]; exact q1, fun x hx => by rw [E' _ _ (by decide), FY _ _ _ (by omega), FY _ _ _ (by omega)]; exact q2 x hx, fun g g0 gl => ?_⟩, j2.trans (((gW.rfl.wr Y1 (by omega)).wr Y2 (by omega)).wr Y3 (by omega))⟩
    rw [E' _ _ (by decide)] at gl
    obtain ⟨c1', c2, c3, c4, c5, c6⟩ := q3 g g0 gl
    rw [E' 2 _ (by decide), E' 4 _ (by decide), E' 5 _ (by decide), E' 6 _ (by decide), FY _ (C + 4275 + 15) _ (by omega), FY _ (C + 4275 + 16) _ (by omega), FY _ (C + 4275 + 20) _ (by omega), FY _ (C + 4275 + 21) _ (by omega), FY _ (C + 4275 + 23) _ (by omega)]
    by_cases c : g = p
    · have hp : p < p + 1 ∧ e 3 p = 0 := ⟨by omega, c0⟩
      rw [c, rlP_3, if_pos hp, if_pos c1, rlP_7, if_pos hp]
      rw [c] at c1' c6
      refine ⟨c1', ?_, fun z => absurd z (by decide), fun _ => p3, fun z => absurd z (by decide), c6⟩
      rw [f3 _ _ _ (by omega), f2 _ _ _ (by omega)]; exact p1'
    · rw [E 3 _ g0 c, E 7 _ g0 c, FY _ (C + 4275 + 17) _ (by omega), FY _ (C + 4275 + 18) _ (by omega), FY _ (C + 4275 + 19) _ (by omega)]
      exact ⟨c1', c2, c3, c4, c5, c6⟩) (fun w ⟨⟨q1, _⟩, _⟩ => by
    show b_X35_meanRest_120 w (C + 4275) (e 0 0) = _
    unfold b_X35_meanRest_120
    rw [q1, rlP_f (by decide), if_neg (Int.lt_irrefl _)])
  exact ⟨w, ew, w1, w2⟩
theorem t_rulesL (h : lkB C H S O s t) (hg : gFt H S O t e) (hV : gFv S O e) : ∃ w, u_X37_defineGlobals_88 t H = u_X37_defineGlobals_225 w H ∧ gFt H S O w (rlP O e 4 (e 0 0)) ∧ tGw H t w := by
  rw [eu_X37_defineGlobals_88]; unfold du_X37_defineGlobals_88
  rw [eu_X37_defineGlobals_90]; unfold du_X37_defineGlobals_90
  obtain ⟨⟨n0, n1, -⟩, v2, -⟩ := id hV
  have N : ∀ (i : Nat) (l : Int), (i = 165 ∧ l = 6252400 ∨ i = 166 ∧ l = 104889349142644 ∨ i = 167 ∧ l = 104889080444001 ∨ i = 168 ∧ l = 1600287603 ∨ i = 169 ∧ l = 1600482916) → (∀ j : Nat, j < (cS i).length → 1 ≤ (cS i).getD j 0 ∧ (cS i).getD j 0 ≤ 127) ∧ (cS i).length ≤ 8 ∧ nmV (fun k => (cS i).getD (k - 6).toNat 0) (cS i).length = l := fun i l hi => by
    rcases hi with ⟨rfl, rfl⟩ | ⟨rfl, rfl⟩ | ⟨rfl, rfl⟩ | ⟨rfl, rfl⟩ | ⟨rfl, rfl⟩ <;> decide +kernel
  obtain ⟨w, ew, w1, w2⟩ := loopTo (C := jc2 b_X37_defineGlobals_90) (fun p w => gFt H S O w (rlP O e 4 p) ∧ tGw H t w) (fun p => [H, p]) 0 (e 0 0) n0 (s := t) (F := fun w => u_X37_defineGlobals_225 w H) ⟨by
    have : ∀ f k, 0 ≤ k → rlP O e 4 0 f k = e f k := fun f k k0 => rlP_no (by omega)
    obtain ⟨g1, g2, g3⟩ := hg
    refine ⟨by rw [this _ _ (by decide)]; exact g1, fun x hx => by rw [this _ _ hx.1.1.1]; exact g2 x hx, fun g g0 gl => ?_⟩
    rw [this _ _ (by decide)] at gl
    rw [this 2 _ g0, this 3 _ g0, this 4 _ g0, this 5 _ g0, this 6 _ g0, this 7 _ g0]
    exact g3 g g0 gl, tGw.rfl⟩ (fun p w p0 p1 ⟨j1, j2⟩ => by
    have hB := h.tgw j2
    obtain ⟨q1, q2, q3⟩ := id j1
    obtain ⟨a1, a2, a3, a4, a5⟩ := q3 p p0 (by rw [rlP_f (by decide)]; exact p1)
    obtain ⟨⟨b1, b2⟩, b3, b4⟩ := v2 p p0 p1
    rw [rlP_f (by decide)] at a1
    rw [rlP_no (by omega)] at a2
    have wp : W32 (p + 1) = p + 1 := W32_in (by omega) (by omega)
    show ∃ w', b_X37_defineGlobals_90 w H p = some (.inl (w', [H, p + 1])) ∧ _
    unfold b_X37_defineGlobals_90
    rw [q1, rlP_f (by decide), if_pos p1, jlt_in p0 (by omega), Option.bind_some, a2]
    have E : ∀ f k, 0 ≤ k → ¬ k = p → rlP O e 4 (p + 1) f k = rlP O e 4 p f k := fun f k _ hk => rlP_e hk
    have E' : ∀ f k, ¬ (f = 3 ∨ f = 7) → rlP O e 4 (p + 1) f k = rlP O e 4 p f k := fun f k hf => by rw [rlP_f hf, rlP_f hf]
    by_cases c0 : e 3 p = 0
    rotate_left
    · rw [if_neg c0, eu_X37_defineGlobals_219]; unfold du_X37_defineGlobals_219
      rw [wp]
      refine ⟨w, rfl, ⟨by rw [E' _ _ (by decide)]; exact q1, fun x hx => by rw [E' _ _ (by decide)]; exact q2 x hx, fun g g0 gl => ?_⟩, j2⟩
      rw [E' _ _ (by decide)] at gl
      obtain ⟨c1, c2, c3, c4, c5⟩ := q3 g g0 gl
      by_cases c : g = p
      · rw [c] at c1 c2 c3 c4 c5 ⊢
        have n3 : rlP O e 4 (p + 1) 3 p = rlP O e 4 p 3 p := by rw [rlP_3, rlP_3, if_neg (fun z => c0 z.2), if_neg (fun z => c0 z.2)]
        have n7 : rlP O e 4 (p + 1) 7 p = rlP O e 4 p 7 p := by rw [rlP_7, rlP_7, if_neg (fun z => c0 z.2), if_neg (fun z => c0 z.2)]
        rw [E' 2 _ (by decide), E' 4 _ (by decide), E' 5 _ (by decide), E' 6 _ (by decide), n3, n7]
        exact ⟨c1, c2, c3, c4, c5⟩
      · rw [E 2 _ g0 c, E 3 _ g0 c, E 4 _ g0 c, E 5 _ g0 c, E 6 _ g0 c, E 7 _ g0 c]
        exact ⟨c1, c2, c3, c4, c5⟩
    rw [if_pos c0, jlt_in p0 (by omega), Option.bind_some, a1]
    obtain ⟨-, -, -, y7, y8⟩ := hB.sym b1.1
    have vn := y7.2.2.2.2.2.2.2.2.2.1
    have M : ∀ (i : Nat) (l : Int), (i = 165 ∧ l = 6252400 ∨ i = 166 ∧ l = 104889349142644 ∨ i = 167 ∧ l = 104889080444001 ∨ i = 168 ∧ l = 1600287603 ∨ i = 169 ∧ l = 1600482916) → ∃ r, m_X37_isNamed w H (e 2 p) l = some r ∧ (r = 0 ∨ r = 1) ∧ (r = 1 ↔ nmE (sy O (e 2 p)) (cS i)) := fun i l hi => t_isNamed y8 vn b1.1.1 (N i l hi).1 (N i l hi).2.1 (N i l hi).2.2
    obtain ⟨r1, e1, d1, i1⟩ := M 165 6252400 (by omega)
    obtain ⟨r2, e2, d2, i2⟩ := M 166 104889349142644 (by omega)
    obtain ⟨r3, e3, d3, i3⟩ := M 167 104889080444001 (by omega)
    obtain ⟨r4, e4, d4, i4⟩ := M 168 1600287603 (by omega)
    obtain ⟨r5, e5, d5, i5⟩ := M 169 1600482916 (by omega)
    have key : ((m_X37_isNamed w H (e 2 p) 6252400).bind fun v3 => if v3 = 0 then (m_X37_isNamed w H (e 2 p) 104889349142644).bind fun v4 => if v4 = 0 then (m_X37_isNamed w H (e 2 p) 104889080444001).bind fun v5 => if v5 = 0 then (m_X37_isNamed w H (e 2 p) 1600287603).bind fun v6 => if v6 = 0 then (m_X37_isNamed w H (e 2 p) 1600482916).bind fun v7 => if v7 = 0 then u_X37_defineGlobals_198 w H p 0 p (H + 196) else u_X37_defineGlobals_198 w H p 5 p (H + 196) else u_X37_defineGlobals_198 w H p 4 p (H + 196) else u_X37_defineGlobals_198 w H p 3 p (H + 196) else u_X37_defineGlobals_198 w H p 2 p (H + 196) else u_X37_defineGlobals_198 w H p 1 p (H + 196)) = u_X37_defineGlobals_198 w H p (rlN (sy O (e 2 p))) p (H + 196) := by
      unfold rlN
      rw [e1, Option.bind_some]
      by_cases c1 : nmE (sy O (e 2 p)) (cS 165)
      · rw [if_neg (by have := i1.mpr c1; omega), if_pos c1]
      rw [if_pos (by rcases d1 with z | z; exact z; exact absurd (i1.mp z) c1), if_neg c1, e2, Option.bind_some]
      by_cases c2 : nmE (sy O (e 2 p)) (cS 166)
      · rw [if_neg (by have := i2.mpr c2; omega), if_pos c2]
      rw [if_pos (by rcases d2 with z | z; exact z; exact absurd (i2.mp z) c2), if_neg c2, e3, Option.bind_some]
      by_cases c3 : nmE (sy O (e 2 p)) (cS 167)
      · rw [if_neg (by have := i3.mpr c3; omega), if_pos c3]
      rw [if_pos (by rcases d3 with z | z; exact z; exact absurd (i3.mp z) c3), if_neg c3, e4, Option.bind_some]
      by_cases c4 : nmE (sy O (e 2 p)) (cS 168)
      · rw [if_neg (by have := i4.mpr c4; omega), if_pos c4]
      rw [if_pos (by rcases d4 with z | z; exact z; exact absurd (i4.mp z) c4), if_neg c4, e5, Option.bind_some]
      by_cases c5 : nmE (sy O (e 2 p)) (cS 169)
      · rw [if_neg (by have := i5.mpr c5; omega), if_pos c5]
      · rw [if_pos (by rcases d5 with z | z; exact z; exact absurd (i5.mp z) c5), if_neg c5]
    have hr := rlN_lo (V := sy O (e 2 p))
    rw [key, eu_X37_defineGlobals_198]; unfold du_X37_defineGlobals_198
    rw [jst_in p0 (by omega), Option.bind_some]
    obtain ⟨y1, Y1⟩ : ∃ y1, y1 = jp w 1000 (H + 196) p (rlN (sy O (e 2 p))) := ⟨_, rfl⟩
    obtain ⟨f1, p1', -⟩ := jpF Y1
    rw [← Y1, jlt_in p0 (by omega), Option.bind_some, p1']
    have k218 : (if 0 < rlN (sy O (e 2 p)) then u_X37_defineGlobals_218 y1 H p 3 p (H + 191) else u_X37_defineGlobals_218 y1 H p 4 p (H + 191)) = u_X37_defineGlobals_218 y1 H p (if 0 < rlN (sy O (e 2 p)) then 3 else 4) p (H + 191) := by split <;> rfl
    rw [k218, eu_X37_defineGlobals_218]; unfold du_X37_defineGlobals_218
    rw [jst_in p0 (by omega), Option.bind_some]
    obtain ⟨y2, Y2⟩ : ∃ y2, y2 = jp y1 1000 (H + 191) p (if 0 < rlN (sy O (e 2 p)) then 3 else 4) := ⟨_, rfl⟩
    obtain ⟨f2, p2, -⟩ := jpF Y2
    rw [← Y2, eu_X37_defineGlobals_219]; unfold du_X37_defineGlobals_219
    rw [wp]
    have FY : ∀ c a k, ¬ (c = 1000 ∧ (a = H + 191 ∨ a = H + 196) ∧ k = p) → jf y2 c a k = jf w c a k := fun c a k q => by rw [f2 _ _ _ (by omega), f1 _ _ _ (by omega)]
    refine ⟨y2, rfl, ⟨by rw [E' _ _ (by decide), FY _ _ _ (by omega)]; exact q1, fun x hx => by rw [E' _ _ (by decide), FY _ _ _ (by omega)]; exact q2 x hx, fun g g0 gl => ?_⟩, (j2.wr Y1 (by omega)).wr Y2 (by omega)⟩
    rw [E' _ _ (by decide)] at gl
    obtain ⟨c1, c2, c3, c4, c5⟩ := q3 g g0 gl
    rw [E' 2 _ (by decide), E' 4 _ (by decide), E' 5 _ (by decide), E' 6 _ (by decide), FY _ (H + 190) _ (by omega), FY _ (H + 192) _ (by omega), FY _ (H + 193) _ (by omega), FY _ (H + 194) _ (by omega)]
    by_cases c : g = p
    · have hp : p < p + 1 ∧ e 3 p = 0 := ⟨by omega, c0⟩
      rw [c, rlP_3, if_pos hp, rlP_7, if_pos hp]
      rw [c] at c1
      refine ⟨c1, p2, fun z => ?_, fun z => ?_, fun _ => ?_⟩
      · split at z <;> omega
      · split at z <;> omega
      · rw [f2 _ _ _ (by omega)]; exact p1'
    · rw [E 3 _ g0 c, E 7 _ g0 c, FY _ (H + 191) _ (by omega), FY _ (H + 196) _ (by omega)]
      exact ⟨c1, c2, c3, c4, c5⟩) (fun w ⟨⟨q1, _⟩, _⟩ => by
    show b_X37_defineGlobals_90 w H (e 0 0) = _
    unfold b_X37_defineGlobals_90
    rw [q1, rlP_f (by decide), if_neg (Int.lt_irrefl _)])
  exact ⟨w, ew, w1, w2⟩
end jRules
