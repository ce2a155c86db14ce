/-! the linker: what is nowhere, where it starts, both sides -/
set_option maxRecDepth 100000
section jDefine
variable {s t u w r q' : jS} {a b g k m n p v l x y z c j X f i H C P Q P' Q' S : Int} {O : Int → Int → Int → Int → Int} {d e : Int → Int → Int} {E V : Int → Int} {R : Type}
/-- what is nowhere is nothing -/
theorem c_nothing (hg : gFc C S O s (rlP O e 0 (e 0 0))) (hV : gFv S O e) (h12 : ∀ g, 0 ≤ g → g < e 0 0 → e 3 g ≤ 2) : ∃ w, u_X35_meanRest_261 s (C + 4275) = some (w, false, 0) ∧ gFc C S O w (rlP O e 4 (e 0 0)) ∧ gW C s w := by
  obtain ⟨⟨n0, n1, -⟩, v2, -⟩ := id hV
  obtain ⟨q1, q2, q3⟩ := hg
  rw [eu_X35_meanRest_261]; unfold du_X35_meanRest_261
  rw [eu_X35_meanRest_263]; unfold du_X35_meanRest_263
  have F0 : ∀ z f k, ¬ (f = 3 ∨ f = 7) → rlP O e z (e 0 0) f k = e f k := fun z f k hf => rlP_f hf
  rw [F0 0 0 0 (by decide)] at q1
  obtain ⟨w, ew, ⟨w1, w2⟩, w3⟩ := loopTo (C := jc2 b_X35_meanRest_263) (fun p w => (gW C s w ∧ ∀ c a k, ¬ (c = 1000 ∧ a = C + 4275 + 17) → jf w c a k = jf s c a k) ∧ ∀ g, 0 ≤ g → g < e 0 0 → jf w 1000 (C + 4275 + 17) g = hC (if g < p then rlP O e 4 (e 0 0) 3 g else rlP O e 0 (e 0 0) 3 g)) (fun p => [C + 4275, p]) 0 (e 0 0) n0 (s := s) (F := fun w => some (w, false, 0)) ⟨⟨gW.rfl, fun _ _ _ _ => rfl⟩, fun g g0 g1 => by rw [if_neg (by omega)]; exact (q3 g g0 (by rw [F0 0 0 0 (by decide)]; exact g1)).2.1⟩ (fun p w p0 p1 ⟨⟨e1, e2⟩, e3⟩ => by
    have r17 := e3 p p0 p1
    rw [if_neg (Int.lt_irrefl _)] at r17
    have nx : ∀ g, 0 ≤ g → g < e 0 0 → ¬ g = p → hC (if g < p then rlP O e 4 (e 0 0) 3 g else rlP O e 0 (e 0 0) 3 g) = hC (if g < p + 1 then rlP O e 4 (e 0 0) 3 g else rlP O e 0 (e 0 0) 3 g) := fun g g0 g1 gn => by
      by_cases c : g < p
      · rw [if_pos c, if_pos (show g < p + 1 by omega)]
      · rw [if_neg c, if_neg (show ¬ g < p + 1 by omega)]
    show ∃ w', b_X35_meanRest_263 w (C + 4275) p = some (.inl (w', [C + 4275, p + 1])) ∧ _
    unfold b_X35_meanRest_263
    rw [e2 _ _ _ (by omega), q1, if_pos p1, jlt_in p0 (by omega), Option.bind_some, r17, eu_X35_meanRest_288]; unfold du_X35_meanRest_288
    rw [W32_in (z := p + 1) (by omega) (by omega)]
    obtain ⟨-, ⟨b0, b1⟩, -⟩ := v2 p p0 p1
    have b2 := h12 p p0 p1
    by_cases c0 : e 3 p = 0 ∧ ¬ 0 < rlN (sy O (e 2 p))
    · have hp : p < e 0 0 ∧ e 3 p = 0 := ⟨p1, c0.1⟩
      have z0 : rlP O e 0 (e 0 0) 3 p = 0 := by rw [rlP_3, if_pos hp, if_neg c0.2]
      have z4 : rlP O e 4 (e 0 0) 3 p = 4 := by rw [rlP_3, if_pos hp, if_neg c0.2]
      rw [z0, if_pos (show hC 0 = 4 by decide), jst_in p0 (by omega), Option.bind_some]
      obtain ⟨y, Y⟩ : ∃ y, y = jp w 1000 (C + 4275 + 17) p 3 := ⟨_, rfl⟩
      obtain ⟨f1, p1', -⟩ := jpF Y
      rw [← Y]
      refine ⟨y, rfl, ⟨e1.wr Y (by omega), fun c a k q => by rw [f1 _ _ _ (by omega)]; exact e2 c a k q⟩, fun g g0 g1 => ?_⟩
      by_cases c : g = p
      · rw [c, if_pos (show p < p + 1 by omega), z4]; exact p1'
      · rw [f1 _ _ _ (by omega), ← nx g g0 g1 c]; exact e3 g g0 g1
    · have zz : rlP O e 0 (e 0 0) 3 p = rlP O e 4 (e 0 0) 3 p := by
        rw [rlP_3, rlP_3]
        by_cases c : p < e 0 0 ∧ e 3 p = 0
        · have c2 : 0 < rlN (sy O (e 2 p)) := by
            by_cases c3 : 0 < rlN (sy O (e 2 p))
            · exact c3
            · exact absurd ⟨c.2, c3⟩ c0
          rw [if_pos c, if_pos c2, if_pos c, if_pos c2]
        · rw [if_neg c, if_neg c]
      have n4 : ¬ hC (rlP O e 0 (e 0 0) 3 p) = 4 := by
        rw [rlP_3]
        by_cases c : p < e 0 0 ∧ e 3 p = 0
        · have c2 : 0 < rlN (sy O (e 2 p)) := by
            by_cases c3 : 0 < rlN (sy O (e 2 p))
            · exact c3
            · exact absurd ⟨c.2, c3⟩ c0
          rw [if_pos c, if_pos c2]; decide
        · rw [if_neg c]
          intro z
          exact c ⟨p1, (hC_4 b0 b1).mp z⟩
      rw [if_neg n4]
      refine ⟨w, rfl, ⟨e1, e2⟩, fun g g0 g1 => ?_⟩
      by_cases c : g = p
      · rw [c, if_pos (show p < p + 1 by omega), ← zz]; exact r17
      · rw [← nx g g0 g1 c]; exact e3 g g0 g1) (fun w ⟨⟨e1, e2⟩, e3⟩ => by
    show b_X35_meanRest_263 w (C + 4275) (e 0 0) = _
    unfold b_X35_meanRest_263
    rw [e2 _ _ _ (by omega), q1, if_neg (Int.lt_irrefl _)])
  refine ⟨w, ew, ⟨by rw [F0 _ _ _ (by decide), w2 _ _ _ (by omega)]; exact q1, fun x hx => by rw [F0 _ _ _ (by decide), w2 _ _ _ (by omega), w2 _ _ _ (by omega), ← F0 0 1 x (by decide)]; exact q2 x hx, fun g g0 g1 => ?_⟩, w1⟩
  rw [F0 _ _ _ (by decide)] at g1
  obtain ⟨a1, a2, a3, a4, a5, a6⟩ := q3 g g0 (by rw [F0 0 0 0 (by decide)]; exact g1)
  have r17 := w3 g g0 g1
  rw [if_pos g1] at r17
  have eq3 : rlP O e 4 (e 0 0) 3 g = rlP O e 0 (e 0 0) 3 g ∨ rlP O e 4 (e 0 0) 3 g = 4 := by
    rw [rlP_3, rlP_3]
    by_cases c : g < e 0 0 ∧ e 3 g = 0
    · rw [if_pos c, if_pos c]
      by_cases c2 : 0 < rlN (sy O (e 2 g))
      · rw [if_pos c2, if_pos c2]; exact .inl rfl
      · rw [if_neg c2, if_neg c2]; exact .inr rfl
    · rw [if_neg c, if_neg c]; exact .inl rfl
  rw [F0 0 2 g (by decide)] at a1
  rw [F0 0 4 g (by decide)] at a3
  rw [F0 0 5 g (by decide), F0 0 6 g (by decide)] at a5
  rw [F0 4 2 g (by decide), F0 4 4 g (by decide), F0 4 5 g (by decide), F0 4 6 g (by decide), show rlP O e 4 (e 0 0) 7 g = rlP O e 0 (e 0 0) 7 g by rw [rlP_7, rlP_7], w2 _ (C + 4275 + 15) _ (by omega), w2 _ (C + 4275 + 16) _ (by omega), w2 _ (C + 4275 + 18) _ (by omega), w2 _ (C + 4275 + 19) _ (by omega), w2 _ (C + 4275 + 20) _ (by omega), w2 _ (C + 4275 + 21) _ (by omega), w2 _ (C + 4275 + 23) _ (by omega)]
  refine ⟨a1, r17, fun z => a3 ?_, fun z => a4 ?_, fun z => a5 ?_, a6⟩ <;> rcases eq3 with q | q <;> omega
/-- where it starts -/
def stGl (O : Int → Int → Int → Int → Int) (e : Int → Int → Int) (g : Int) : Prop := (0 ≤ g ∧ g < e 0 0) ∧ nmE (sy O (e 2 g)) (cS 170) ∧ e 3 g = 1
theorem stGl_one (hV : gFv S O e) (h : stGl O e g) (h' : stGl O e k) : g = k := by
  obtain ⟨⟨a0, a1⟩, a2, -⟩ := h
  obtain ⟨⟨b0, b1⟩, b2, -⟩ := h'
  by_cases c : g < k
  · exact absurd (nmE_same a2 b2) (hV.1.2.2 g k a0 c b1)
  · by_cases c' : k < g
    · exact absurd (nmE_same b2 a2) (hV.1.2.2 k g b0 c' a1)
    · omega
theorem t_startSym (h : lkB C H S O s t) (hg : gFt H S O t e) (hV : gFv S O e) : (∃ g, stGl O e g ∧ m_X37_startSymbol t H = some (e 4 g)) ∨ (∀ g, ¬ stGl O e g) ∧ m_X37_startSymbol t H = some (-1) := by
  obtain ⟨⟨n0, n1, -⟩, v2, -⟩ := id hV
  obtain ⟨g1, g2, g3⟩ := hg
  have N : (∀ j : Nat, j < (cS 170).length → 1 ≤ (cS 170).getD j 0 ∧ (cS 170).getD j 0 ≤ 127) ∧ (cS 170).length ≤ 8 ∧ nmV (fun k => (cS 170).getD (k - 6).toNat 0) (cS 170).length = 104949478421108 := by decide +kernel
  rw [em_X37_startSymbol]; unfold dm_X37_startSymbol
  rw [eu_X37_startSymbol_2]; unfold du_X37_startSymbol_2
  have st : ∀ p, 0 ≤ p → p < e 0 0 → (¬ stGl O e p → b_X37_startSymbol_2 t H p = some (.inl [H, p + 1])) ∧ (stGl O e p → b_X37_startSymbol_2 t H p = jinr (some (e 4 p))) := fun p p0 p1 => by
    obtain ⟨a1, a2, a3, -⟩ := g3 p p0 p1
    obtain ⟨⟨b1, b2⟩, -⟩ := v2 p p0 p1
    obtain ⟨-, -, -, y7, y8⟩ := h.sym b1.1
    obtain ⟨r, er, d, i⟩ := t_isNamed y8 y7.2.2.2.2.2.2.2.2.2.1 b1.1.1 N.1 N.2.1 N.2.2
    unfold b_X37_startSymbol_2
    rw [g1, if_pos p1, jlt_in p0 (by omega), Option.bind_some, a1, er, Option.bind_some, eu_X37_startSymbol_43]; unfold du_X37_startSymbol_43
    rw [W32_in (by omega) (by omega)]
    refine ⟨fun hn => ?_, fun hn => ?_⟩
    · by_cases c : nmE (sy O (e 2 p)) (cS 170)
      · rw [if_neg (by have := i.mpr c; omega), jlt_in p0 (by omega), Option.bind_some, a2, if_neg (fun z => hn ⟨⟨p0, p1⟩, c, z⟩)]
      · rw [if_pos (by rcases d with z | z; exact z; exact absurd (i.mp z) c)]
    · rw [if_neg (by have := i.mpr hn.2.1; omega), jlt_in p0 (by omega), Option.bind_some, a2, if_pos hn.2.2, eu_X37_startSymbol_36]; unfold du_X37_startSymbol_36
      rw [jlt_in p0 (by omega), Option.bind_some, a3 hn.2.2]
  rcases jseekR (C := jc2 b_X37_startSymbol_2) (s := t) (fun p => [H, p]) (fun p => stGl O e p) (fun p => some (e 4 p)) (some (-1)) 0 (e 0 0) n0 (fun p p0 p1 hp => (st p p0 p1).1 hp) (fun p p0 p1 hp => (st p p0 p1).2 hp) (by
      show b_X37_startSymbol_2 t H (e 0 0) = _
      unfold b_X37_startSymbol_2
      rw [g1, if_neg (Int.lt_irrefl _)]) with ⟨p, p0, p1, hp, -, ep⟩ | ⟨hn, ep⟩
  · exact .inl ⟨p, hp, ep⟩
  · exact .inr ⟨fun g hg => hn g hg.1.1 hg.1.2 hg, ep⟩
/-- both know where it starts, or that it does not -/
abbrev stY (O : Int → Int → Int → Int → Int) (e : Int → Int → Int) (g : Int) : Prop := stGl O e g ∧ sy O (e 4 g) 0 = 0
theorem c_entryG (h : lkB C H S O s t) (hP : cKdl C s) (hg : gFc C S O s e) (hV : gFv S O e) : (∃ g, stY O e g ∧ m_X35_entryGlobal s (C + 4275) = some (s, false, g)) ∨ (∀ g, ¬ stY O e g) ∧ m_X35_entryGlobal s (C + 4275) = u_X35_entryGlobal_59 s (C + 4275) := by
  obtain ⟨⟨n0, n1, -⟩, v2, -⟩ := id hV
  obtain ⟨g1, g2, g3⟩ := hg
  have N : (cS 170).length ≤ 16 := by decide +kernel
  have hp170 : pSg s (jc s 170) (cS 170) := hP.1.str (i := 170) (by decide)
  rw [em_X35_entryGlobal]; unfold dm_X35_entryGlobal
  rw [eu_X35_entryGlobal_2]; unfold du_X35_entryGlobal_2
  have st : ∀ p, 0 ≤ p → p < e 0 0 → (¬ stY O e p → b_X35_entryGlobal_2 s (C + 4275) p = some (.inl (s, [C + 4275, p + 1]))) ∧ (stY O e p → b_X35_entryGlobal_2 s (C + 4275) p = jinr (some (s, false, p))) := fun p p0 p1 => by
    obtain ⟨⟨a1, a1'⟩, a2, a3, -⟩ := g3 p p0 p1
    obtain ⟨⟨b1, b2⟩, b3, b4, -⟩ := v2 p p0 p1
    obtain ⟨r, er, d, i⟩ := c_isNamed h hp170 N ⟨⟨p0, by omega⟩, a1, a1'⟩ b1.1
    have hh : hC (e 3 p) = 0 ↔ e 3 p = 1 := by
      have : e 3 p = 0 ∨ e 3 p = 1 ∨ e 3 p = 2 ∨ e 3 p = 3 ∨ e 3 p = 4 := by omega
      rcases this with q | q | q | q | q <;> rw [q] <;> decide
    unfold b_X35_entryGlobal_2
    rw [g1, if_pos p1, er, Option.bind_some, eu_X35_entryGlobal_53]; unfold du_X35_entryGlobal_53
    rw [W32_in (by omega) (by omega)]
    have k3 : e 3 p = 1 → ((jlt s 1000 (C + 4275 + 18) 600 p).bind fun v3 => (jlt s 1000 (C + 4275 + 19) 600 p).bind fun v4 => (m_X35_symbol s (C + 4275) v3 v4).bind fun v5 => (jrd s 20 v5 1).bind fun v6 => if v6 = 0 then jinr (some (s, false, p)) else some (.inl (s, [C + 4275, p + 1]))) = (if sy O (e 4 p) 0 = 0 then jinr (some (s, false, p)) else some (.inl (s, [C + 4275, p + 1])) : Option ((jS × List Int) ⊕ (jS × Bool × Int))) := fun c1 => by
      obtain ⟨c2, c3⟩ := a3 c1
      obtain ⟨⟨c4, -⟩, -⟩ := b4 c1
      obtain ⟨s1, s2, ⟨s3, s4, -, -⟩, -, -⟩ := h.sym c4.1
      rw [jlt_in p0 (by omega), Option.bind_some, c2, jlt_in p0 (by omega), Option.bind_some, c3, s1, Option.bind_some, jrd_in s3 s4, Option.bind_some, s2.1]
    refine ⟨fun hn => ?_, fun hn => ?_⟩
    · by_cases c : nmE (sy O (e 2 p)) (cS 170)
      · rw [if_neg (by have := i.mpr c; omega), jlt_in p0 (by omega), Option.bind_some, a2]
        by_cases c1 : e 3 p = 1
        · rw [if_pos (hh.mpr c1), k3 c1, if_neg (fun z => hn ⟨⟨⟨p0, p1⟩, c, c1⟩, z⟩)]
        · rw [if_neg (fun z => c1 (hh.mp z))]
      · rw [if_pos (by rcases d with z | z; exact z; exact absurd (i.mp z) c)]
    · rw [if_neg (by have := i.mpr hn.1.2.1; omega), jlt_in p0 (by omega), Option.bind_some, a2, if_pos (hh.mpr hn.1.2.2), k3 hn.1.2.2, if_pos hn.2]
  rcases jseekW (C := jc2 b_X35_entryGlobal_2) (s := s) (fun p => [C + 4275, p]) (fun p => stY O e p) (fun p => some (s, false, p)) (u_X35_entryGlobal_59 s (C + 4275)) 0 (e 0 0) n0 (fun p p0 p1 hp => (st p p0 p1).1 hp) (fun p p0 p1 hp => (st p p0 p1).2 hp) (by
      show b_X35_entryGlobal_2 s (C + 4275) (e 0 0) = _
      unfold b_X35_entryGlobal_2
      rw [g1, if_neg (Int.lt_irrefl _)]) with ⟨p, p0, p1, hp, -, ep⟩ | ⟨hn, ep⟩
  · exact .inl ⟨p, hp, ep⟩
  · exact .inr ⟨fun g hg => hn g hg.1.1.1 hg.1.1.2 hg, ep⟩
/-- what defining leaves -/
def dfQ (C H S : Int) (O : Int → Int → Int → Int → Int) (s t : jS) (e : Int → Int → Int) (r : jS × Bool × Int) (q : jS × Int) : Prop := r.2.1 = false ∧ gW C s r.1 ∧ gFc C S O r.1 e ∧ ((∃ g, stY O e g ∧ q.2 = 1 ∧ tGw H t q.1 ∧ gFt H S O q.1 e) ∨ ((∀ g, ¬ stY O e g) ∧ q.2 = 0 ∧ (jf q.1 41 H 99 = 5 ∧ jf q.1 41 H 100 = -1 ∧ jf q.1 41 H 101 = -1) ∧ tLF H t q.1))
theorem x_check (h : lkB C H S O s t) (hb : jBd s 1 6) (hgc : gFc C S O s (rlP O e 0 (e 0 0))) (hgt : gFt H S O t (rlP O e 4 (e 0 0))) (hV : gFv S O e) (h12 : ∀ g, 0 ≤ g → g < e 0 0 → e 3 g ≤ 2) : jE2 (u_X35_meanRest_165 s (C + 4275)) (u_X37_defineGlobals_225 t H) fun r q => dfQ C H S O s t (rlP O e 4 (e 0 0)) r q ∨ lkF C H s t 1 6 r q := by
  have C0 := h.1.1
  have C1 := h.1.2
  have hn6 := nIn_lo (S := S) 6
  obtain ⟨⟨n0, n1, -⟩, v2, v3⟩ := id hV
  rw [eu_X35_meanRest_165, eu_X37_defineGlobals_225]; unfold du_X35_meanRest_165 du_X37_defineGlobals_225
  rw [eu_X35_meanRest_167, eu_X37_defineGlobals_227]; unfold du_X35_meanRest_167 du_X37_defineGlobals_227
  have eA : ∀ x, C + 4275 + -4000 + 4041 + 1858 * x = fAt C x := fun x => by unfold fAt; omega
  refine jforU (S := S) (D := jc2 b_X37_defineGlobals_227) (C := jc2 b_X35_meanRest_167) (fun x u w => u = s ∧ w = t) (fun i => [C + 4275, i]) (fun x => [H, x]) ⟨rfl, rfl⟩ (fun x u w x0 x1 hx hj => ?_) (fun x u w x0 x1 hx hj => ?_) (fun u w hj => ?_)
  · obtain ⟨rfl, rfl⟩ := hj
    obtain ⟨z1, z2, z3, z4⟩ := h.2.2.1 x x0 x1 hx
    obtain ⟨-, -, n2, n3, -, -⟩ := z3.2.2.1
    have hi := nIn_lt hx x0 (show x < 6 by omega)
    have hi0 := nIn_lo (S := S) x.toNat
    have hi' : nIn S x.toNat < nIn S (6 : Int).toNat := hi
    show jE2 (b_X35_meanRest_167 u (C + 4275) (nIn S x.toNat)) (b_X37_defineGlobals_227 w H x) _
    unfold b_X35_meanRest_167 b_X37_defineGlobals_227
    rw [h.2.1.1, if_pos hi', jlt_in hi0.1 (by have : nIn S (6 : Int).toNat ≤ 6 := hn6.2; omega), Option.bind_some, h.2.1.2 x x0 (by omega) hx, if_pos x1, t_isIn h, if_pos hx, Option.bind_some, if_neg n10, eu_X35_meanRest_184, eu_X37_defineGlobals_246]; unfold du_X35_meanRest_184 du_X37_defineGlobals_246
    refine jforE (C := jc4 b_X35_meanRest_184) (D := jc3 b_X37_defineGlobals_246) (fun k u' w' => u' = u ∧ w' = w) (fun k => [C + 4275, nIn S x.toNat, x, k]) (fun k => [H, x, k]) 0 (O x 2 1 0) n2 ⟨rfl, rfl⟩ (fun k u' w' k0 k1 hj => ?_) (fun u' w' hj => ?_)
    · obtain ⟨rfl, rfl⟩ := hj
      have ex : (100 * x + k) / 100 = x := by omega
      have em : (100 * x + k) % 100 = k := by omega
      have hv : vsy S O (100 * x + k) := ⟨⟨by omega, by omega⟩, by rw [ex]; exact hx, by rw [ex, em]; exact k1⟩
      obtain ⟨s1, s2, ⟨s3, s4, -, -⟩, -, y8⟩ := h.sym hv
      rw [ex, em] at s1
      have wk : W32 (k + 1) = k + 1 := W32_in (by omega) (by omega)
      obtain ⟨xx, hxx⟩ : ∃ xx, xx = 100 * x + k := ⟨_, rfl⟩
      rw [← hxx] at hv s1 s2 s3 s4 y8
      have c14 := (hgc.2.1 xx hv).1
      rw [rlP_f (by decide)] at c14
      -- the component
      have hc : b_X35_meanRest_184 u' (C + 4275) (nIn S x.toNat) x k = if ¬ sy O xx 3 = 0 ∧ rlP O e 0 (e 0 0) 3 (e 1 xx) = 0 ∧ sy O xx 3 = 1 then jinr (jinr (u_X35_meanRest_241 u' (C + 4275) x k)) else some (.inl (u', [C + 4275, nIn S x.toNat, x, k + 1])) := by
        unfold b_X35_meanRest_184
        rw [jix_in x0 x1, Option.bind_some, eA, c_qCt z1 z3 z4, Option.bind_some, show qCt (O x) 1 = O x 2 1 0 from rfl, if_pos k1, W32_in (z := 100 * x) (by omega) (by omega), W32_in (z := 100 * x + k) (by omega) (by omega), ← hxx, jlt_in (by omega) (by omega), Option.bind_some, c14, eu_X35_meanRest_249]; unfold du_X35_meanRest_249
        rw [wk]
        by_cases c0 : sy O xx 3 = 0
        · rw [if_pos c0, if_pos rfl, if_neg (fun z => z.1 c0)]
        obtain ⟨q0, q1⟩ := v3 xx ⟨hv, c0⟩
        obtain ⟨-, q3, -⟩ := (gFv.rl hV (z := 0) (.inl rfl)).2.1 (e 1 xx) q0 (by rw [rlP_f (by decide)]; exact q1)
        obtain ⟨-, p2, -⟩ := hgc.2.2 (e 1 xx) q0 (by rw [rlP_f (by decide)]; exact q1)
        rw [if_neg c0, if_neg (by omega), jlt_in q0 (by omega), Option.bind_some, p2]
        by_cases c1 : rlP O e 0 (e 0 0) 3 (e 1 xx) = 0
        · rw [if_pos ((hC_4 q3.1 q3.2).mpr c1), s1, Option.bind_some, jrd_in s3 s4, Option.bind_some, s2.2.2.2.1]
          by_cases c2 : sy O xx 3 = 1
          · rw [if_pos c2, if_pos ⟨c0, c1, c2⟩]
          · rw [if_neg c2, if_neg (fun z => c2 z.2.2)]
        · rw [if_neg (fun z => c1 ((hC_4 q3.1 q3.2).mp z)), if_neg (fun z => c1 z.2.1)]
      -- the twin
      have hd : b_X37_defineGlobals_246 w' H x k = if sy O xx 3 = 1 ∧ rlP O e 4 (e 0 0) 3 (e 1 xx) = 4 then jinr (jinr (u_X37_defineGlobals_291 w' H x k)) else some (.inl (w', [H, x, k + 1])) := by
        unfold b_X37_defineGlobals_246
        rw [jlt_in x0 x1, Option.bind_some, z2.2.2.2.1.1, if_pos k1, W32_in (z := 100 * x) (by omega) (by omega), W32_in (z := 100 * x + k) (by omega) (by omega), ← hxx, jlt_in (by omega) (by omega), Option.bind_some, y8.2.2.2.1, eu_X37_defineGlobals_299]; unfold du_X37_defineGlobals_299
        rw [wk]
        by_cases c2 : sy O xx 3 = 1
        · have hx' : gsy S O xx := ⟨hv, by omega⟩
          obtain ⟨q0, q1⟩ := v3 xx hx'
          have p1 := hgt.2.1 xx hx'
          rw [rlP_f (by decide)] at p1
          obtain ⟨-, p2, -⟩ := hgt.2.2 (e 1 xx) q0 (by rw [rlP_f (by decide)]; exact q1)
          rw [if_pos c2, jlt_in (by omega) (by omega), Option.bind_some, p1, jlt_in q0 (by omega), Option.bind_some, p2]
          by_cases c1 : rlP O e 4 (e 0 0) 3 (e 1 xx) = 4
          · rw [if_pos c1, if_pos ⟨c2, c1⟩]
          · rw [if_neg c1, if_neg (fun z => c1 z.2)]
        · rw [if_neg c2, if_neg (fun z => c2 z.1)]
      have same : (¬ sy O xx 3 = 0 ∧ rlP O e 0 (e 0 0) 3 (e 1 xx) = 0 ∧ sy O xx 3 = 1) ↔ (sy O xx 3 = 1 ∧ rlP O e 4 (e 0 0) 3 (e 1 xx) = 4) := by
        by_cases c2 : sy O xx 3 = 1
        rotate_left
        · exact ⟨fun z => absurd z.2.2 c2, fun z => absurd z.1 c2⟩
        obtain ⟨q0, q1⟩ := v3 xx ⟨hv, by omega⟩
        have b2 := h12 _ q0 q1
        have b0 := (v2 _ q0 q1).2.1.1
        rw [rlP_3, rlP_3]
        by_cases c : e 1 xx < e 0 0 ∧ e 3 (e 1 xx) = 0
        · rw [if_pos c, if_pos c]
          by_cases c3 : 0 < rlN (sy O (e 2 (e 1 xx)))
          · rw [if_pos c3, if_pos c3]; omega
          · rw [if_neg c3, if_neg c3]; omega
        · rw [if_neg c, if_neg c]
          have : ¬ e 3 (e 1 xx) = 0 := fun z => c ⟨q1, z⟩
          omega
      by_cases cf : sy O xx 3 = 1 ∧ rlP O e 4 (e 0 0) 3 (e 1 xx) = 4
      · rw [if_pos (same.mpr cf)] at hc
        rw [if_pos cf] at hd
        refine .inr ⟨_, _, hc, hd, ?_⟩
        rw [eu_X35_meanRest_241, eu_X37_defineGlobals_291]; unfold du_X35_meanRest_241 du_X37_defineGlobals_291
        obtain ⟨r, q, er, eq, hq⟩ := jE2_get (lkF.mk (C := C) (H := H) (f := 4) (s := u') (t := w') (by omega) hb (by omega) h.2.2.2.2.2 (by decide) x k)
        rw [er, eq]
        exact jE2_some.mpr (.inr ⟨r, q, rfl, rfl, .inr hq⟩)
      · rw [if_neg (fun z => cf (same.mp z))] at hc
        rw [if_neg cf] at hd
        exact .inl ⟨u', w', hc, hd, rfl, rfl⟩
    · obtain ⟨rfl, rfl⟩ := hj
      refine ⟨_, _, by
        show b_X35_meanRest_184 u' (C + 4275) (nIn S x.toNat) x (O x 2 1 0) = jinr (u_X35_meanRest_255 u' (C + 4275) (nIn S x.toNat))
        unfold b_X35_meanRest_184
        rw [jix_in x0 x1, Option.bind_some, eA, c_qCt z1 z3 z4, Option.bind_some, show qCt (O x) 1 = O x 2 1 0 from rfl, if_neg (Int.lt_irrefl _)], by
        show b_X37_defineGlobals_246 w' H x (O x 2 1 0) = jinr (u_X37_defineGlobals_305 w' H x)
        unfold b_X37_defineGlobals_246
        rw [jlt_in x0 x1, Option.bind_some, z2.2.2.2.1.1, if_neg (Int.lt_irrefl _)], ?_⟩
      rw [eu_X35_meanRest_255, eu_X37_defineGlobals_305]; unfold du_X35_meanRest_255 du_X37_defineGlobals_305
      rw [W32_in (z := nIn S x.toNat + 1) (by omega) (by omega), W32_in (z := x + 1) (by omega) (by omega)]
      exact jE2_some.mpr (.inl ⟨u', w', rfl, rfl, rfl, rfl⟩)
  · obtain ⟨rfl, rfl⟩ := hj
    refine ⟨?_, rfl, rfl⟩
    show b_X37_defineGlobals_227 w H x = _
    unfold b_X37_defineGlobals_227
    rw [if_pos x1, t_isIn h, if_neg hx, Option.bind_some, if_pos rfl, eu_X37_defineGlobals_305]; unfold du_X37_defineGlobals_305
    rw [W32_in (z := x + 1) (by omega) (by omega)]
  · obtain ⟨rfl, rfl⟩ := hj
    obtain ⟨u', e1, e2, e3⟩ := c_nothing hgc hV h12
    have hVf := gFv.rl hV (z := 4) (.inr rfl)
    refine ⟨u_X35_meanRest_261 u (C + 4275), u_X37_defineGlobals_311 w H, by
      show b_X35_meanRest_167 u (C + 4275) (nIn S 6) = _
      unfold b_X35_meanRest_167
      have : nIn S (6 : Int).toNat = nIn S 6 := rfl
      rw [h.2.1.1, this, if_neg (Int.lt_irrefl _)], by
      show b_X37_defineGlobals_227 w H 6 = _
      unfold b_X37_defineGlobals_227
      rw [if_neg (by decide)], ?_⟩
    rw [e1, eu_X37_defineGlobals_311]; unfold du_X37_defineGlobals_311
    rw [em_X37_isStartThere]; unfold dm_X37_isStartThere
    have no5 : jE2 (some (u', false, (0 : Int))) ((m_X37_refuse w H 5 (-1) (-1)).bind fun q2 => if q2.2 = 0 then some (q2.1, 0) else some (q2.1, Wz 1)) fun r q => r = (u', false, (0 : Int)) ∧ q.2 = 0 ∧ (jf q.1 41 H 99 = 5 ∧ jf q.1 41 H 100 = -1 ∧ jf q.1 41 H 101 = -1) ∧ tLF H w q.1 := by
      obtain ⟨v, ev, v1, v2, v3⟩ := t_refuse h.2.2.2.2.2 5 (-1) (-1)
      rw [ev, Option.bind_some, if_pos rfl]
      exact jE2_some.mpr ⟨rfl, rfl, v1, tLF.of v2 v3⟩
    rcases t_startSym h hgt hVf with ⟨g, hg, eg⟩ | ⟨hn, eg⟩
    · obtain ⟨⟨hg4, -⟩, -⟩ := (hVf.2.1 g hg.1.1 hg.1.2).2.2.1 hg.2.2
      obtain ⟨-, -, -, -, y8⟩ := h.sym hg4.1
      have hx0 := hg4.1.1
      rw [eg, Option.bind_some, if_neg (by omega), jlt_in hx0.1 hx0.2, Option.bind_some, y8.1]
      by_cases c : sy O (rlP O e 4 (e 0 0) 4 g) 0 = 0
      · rw [if_pos c, Wz_1, Option.bind_some, if_neg n10]
        exact jE2_some.mpr (.inl ⟨rfl, e3, e2, .inl ⟨g, ⟨hg, c⟩, rfl, tGw.rfl, hgt⟩⟩)
      · rw [if_neg c, Wz_0, Option.bind_some, if_pos rfl]
        refine jE2_mono no5 fun r q ⟨q1, q2, q3, q4⟩ => .inl ?_
        rw [q1]
        refine ⟨rfl, e3, e2, .inr ⟨fun k hk => ?_, q2, q3, q4⟩⟩
        have := stGl_one hVf hg hk.1
        rw [this] at c
        exact c hk.2
    · rw [eg, Option.bind_some, if_pos rfl, Wz_0, Option.bind_some, if_pos rfl]
      refine jE2_mono no5 fun r q ⟨q1, q2, q3, q4⟩ => .inl ?_
      rw [q1]
      exact ⟨rfl, e3, e2, .inr ⟨fun k hk => hn k hk.1, q2, q3, q4⟩⟩
theorem x_define (h : lkB C H S O s t) (hb : jBd s 1 6) (hP : cKdl C s) (hgc : gRc C S O s 600 (hS S O e)) (hgt : gRt H S O t 600 e) (hV : gVd S O 600 e) : ∃ r q, m_X35_meanRest s (C + 4275) = some r ∧ m_X37_defineGlobals t H = some q ∧ (lkF C H s t 1 6 r q ∨ r.2.1 = false ∧ ∃ r', m_X35_entryGlobal r.1 (C + 4275) = some r' ∧ (lkF C H s t 1 6 r' q ∨ ∃ e g, r' = (r.1, false, g) ∧ q.2 = 1 ∧ stY O e g ∧ gW C s r.1 ∧ tGw H t q.1 ∧ gFc C S O r.1 e ∧ gFt H S O q.1 e ∧ gFv S O e ∧ ∀ g, 0 ≤ g → g < e 0 0 → 1 ≤ e 3 g)) := by
  have hvs : ∀ x, gsy S O x → vSy (sy O x) := fun x hx => (h.sym hx.1).2.2.2.1
  have C0 := h.1
  have V1 := gFv.of hV hvs
  have V2 := wkE_v V1 600
  have E0 : ∀ n : Nat, wkE S O (hS5 S O e) n 0 0 = hS5 S O e 0 0 ∧ ∀ g, wkE S O (hS5 S O e) n 3 g = hS5 S O e 3 g ∨ wkE S O (hS5 S O e) n 3 g = 1 := fun n => by
    induction n with
    | zero => exact ⟨rfl, fun g => .inl rfl⟩
    | succ n ih =>
      obtain ⟨i1, i2⟩ := ih
      show (if gsy S O n ∧ wkD O (wkE S O (hS5 S O e) n) n then gB (wkE S O (hS5 S O e) n) n (wkE S O (hS5 S O e) n 1 n) else wkE S O (hS5 S O e) n) 0 0 = _ ∧ ∀ g, (if gsy S O n ∧ wkD O (wkE S O (hS5 S O e) n) n then gB (wkE S O (hS5 S O e) n) n (wkE S O (hS5 S O e) n 1 n) else wkE S O (hS5 S O e) n) 3 g = _ ∨ (if gsy S O n ∧ wkD O (wkE S O (hS5 S O e) n) n then gB (wkE S O (hS5 S O e) n) n (wkE S O (hS5 S O e) n 1 n) else wkE S O (hS5 S O e) n) 3 g = 1
      by_cases c : gsy S O n ∧ wkD O (wkE S O (hS5 S O e) n) n
      · rw [if_pos c]
        refine ⟨by rw [gB_no (by omega)]; exact i1, fun g => ?_⟩
        by_cases cg : g = wkE S O (hS5 S O e) n 1 n
        · rw [cg, gB_3]; exact .inr rfl
        · rw [gB_no (by omega)]; exact i2 g
      · rw [if_neg c]; exact ⟨i1, i2⟩
  have h12 : ∀ g, 0 ≤ g → g < wkE S O (hS5 S O e) 600 0 0 → wkE S O (hS5 S O e) 600 3 g ≤ 2 := fun g g0 g1 => by
    rcases (E0 600).2 g with z | z
    · rw [z, hS5_no (by decide)]
      unfold hS
      split
      · omega
      · rw [(E0 600).1, hS5_no (by decide), hS_no (by decide)] at g1
        rcases (hV.2.1 g g0 g1).2 with q | q <;> omega
    · rw [z]; decide
  obtain ⟨w1, ew1, a1, a2⟩ := c_weak h (gFc.of hgc hV) V1
  have hB1 := h.gw a2
  obtain ⟨w2, ew2, b1, b2⟩ := c_rulesL hB1 (hP.lf C0.1 C0.2 a2.lf) a1 V2
  have hB2 := hB1.gw b2
  obtain ⟨v0, ev0, c1, c2⟩ := t_common h hgt hV
  have hT0 := hB2.tgw c2
  obtain ⟨v1, ev1, d1, d2⟩ := t_weak hT0 c1 V1
  have hT1 := hT0.tgw d2
  obtain ⟨v2, ev2, f1, f2⟩ := t_rulesL hT1 d1 V2
  have hT2 := hT1.tgw f2
  have sm := (a2.trans b2).1
  have hTt : tGw H t v2 := (c2.trans d2).trans f2
  obtain ⟨r, q, er, eq, hq⟩ := jE2_get (x_check hT2 (by unfold jBd; rw [sm.2.2.1, sm.2.2.2.1, sm.2.2.2.2.1, sm.2.2.2.2.2.1]; exact hb) b1 f1 V2 h12)
  have Vf := gFv.rl V2 (z := 4) (.inr rfl)
  have eqt : m_X37_defineGlobals t H = some q := by
    rw [em_X37_defineGlobals]; unfold dm_X37_defineGlobals
    rw [eu_X37_defineGlobals_2]; unfold du_X37_defineGlobals_2
    have l1 : jc2 b_X37_defineGlobals_2 [H, 0] t = some (.inl (v0, [H, 0 + 1])) := by
      show b_X37_defineGlobals_2 t H 0 = _
      unfold b_X37_defineGlobals_2
      rw [if_pos (by decide)]; exact ev0
    have l2 : jc2 b_X37_defineGlobals_2 [H, 0 + 1] v0 = some (.inl (v1, [H, 1 + 1])) := by
      show b_X37_defineGlobals_2 v0 H 1 = _
      unfold b_X37_defineGlobals_2
      rw [if_pos (by decide)]; exact ev1
    have l3 : jc2 b_X37_defineGlobals_2 [H, 1 + 1] v1 = jinr (u_X37_defineGlobals_88 v1 H) := by
      show b_X37_defineGlobals_2 v1 H 2 = _
      unfold b_X37_defineGlobals_2
      rw [if_neg (by decide)]
    rw [jlpW_l l1, jlpW_l l2, jlpW_r l3, ev2]; exact eq
  refine ⟨r, q, by rw [ew1, ew2]; exact er, eqt, ?_⟩
  rcases hq with ⟨q1, q2, q3, q4⟩ | hq
  rotate_left
  · exact .inl ((hq.pre ((a2.trans b2).lf) hTt.lf).mono (by decide) (by decide))
  refine .inr ⟨q1, ?_⟩
  have W := (a2.trans b2).trans q2
  have hBr := h.gw W
  have hPr := hP.lf C0.1 C0.2 W.lf
  rcases c_entryG hBr hPr q3 Vf with ⟨g, hg, eg⟩ | ⟨hn, eg⟩
  · rcases q4 with ⟨g', hg', k1, k2, k3⟩ | ⟨hn', -⟩
    · refine ⟨_, eg, .inr ⟨_, g, rfl, k1, hg, W, hTt.trans k2, q3, k3, Vf, fun j j0 j1 => ?_⟩⟩
      rw [rlP_3]
      have b0 := (V2.2.1 j j0 (by rw [rlP_f (by decide)] at j1; exact j1)).2.1.1
      by_cases c : j < wkE S O (hS5 S O e) 600 0 0 ∧ wkE S O (hS5 S O e) 600 3 j = 0
      · rw [if_pos c]; split <;> decide
      · rw [if_neg c]
        rw [rlP_f (by decide)] at j1
        have : ¬ wkE S O (hS5 S O e) 600 3 j = 0 := fun z => c ⟨j1, z⟩
        omega
    · exact absurd hg (hn' g)
  · rcases q4 with ⟨g', hg', -⟩ | ⟨-, k1, ⟨k2, k3, k4⟩, k5⟩
    · exact absurd hg' (hn g')
    · have smr := W.1
      obtain ⟨u, x, e1, ⟨x0, x1⟩, L, ⟨l1, l2, l3⟩, -⟩ := c_wrongL (s := r.1) (C := C) (by rw [smr.2.2.1]; omega) (by unfold jBd; rw [smr.2.2.1, smr.2.2.2.1, smr.2.2.2.2.1, smr.2.2.2.2.2.1]; exact hb) (by rw [smr.2.2.1]; omega) 5 (-1) (-1)
      refine ⟨(u, true, x), by rw [eg, eu_X35_entryGlobal_59]; unfold du_X35_entryGlobal_59; rw [e1, Option.bind_some]; dsimp only; rw [jck0_in x0], .inl ⟨⟨rfl, x0, x1⟩, k1, ⟨by rw [l1, k2], by rw [l1]; decide, by rw [l2, k3], by rw [l3, k4]⟩, (W.lf.trans L).mono (by decide) (by decide), hTt.lf.trans k5⟩⟩
end jDefine
