/-! the linker: all symbols are named, both sides -/
set_option maxRecDepth 100000
section jNames
variable {s t u w r q' : jS} {a b g k m n p v l x y z c j X f i H C P Q P' Q' S : Int} {O : Int → Int → Int → Int → Int} {d e : Int → Int → Int} {E : Int → Int} {R R' : Type} {QQ : R → R' → Prop}
/-- a unit's turn: on, or the end -/
def qU (J : Int → jS → jS → Prop) (va vb : List Int) (x : Int) (QQ : R → R' → Prop) (r : (jS × List Int) ⊕ R) (q : (jS × List Int) ⊕ R') : Prop := (∃ s' t', r = .inl (s', va) ∧ q = .inl (t', vb) ∧ J x s' t') ∨ ∃ a b, r = .inr a ∧ q = .inr b ∧ QQ a b
/-- the component goes over its list of units, the twin over all -/
theorem jforU {C : List Int → jS → Option ((jS × List Int) ⊕ R)} {D : List Int → jS → Option ((jS × List Int) ⊕ R')} (J : Int → jS → jS → Prop) (V V' : Int → List Int) (h : J 0 s t)
    (h1 : ∀ x s t, 0 ≤ x → x < 6 → sIn S x → J x s t → jE2 (C (V (nIn S x.toNat)) s) (D (V' x) t) (qU J (V (nIn S x.toNat + 1)) (V' (x + 1)) (x + 1) QQ))
    (h2 : ∀ x s t, 0 ≤ x → x < 6 → ¬ sIn S x → J x s t → D (V' x) t = some (.inl (t, V' (x + 1))) ∧ J (x + 1) s t)
    (h3 : ∀ s t, J 6 s t → ∃ x y, C (V (nIn S 6)) s = jinr x ∧ D (V' 6) t = jinr y ∧ jE2 x y QQ) : jE2 (jlpW C (V 0) s) (jlpW D (V' 0) t) QQ := by
  have key : ∀ (m : Nat) (x : Int) (s t : jS), 0 ≤ x → x ≤ 6 → 6 - x = m → J x s t → jE2 (jlpW C (V (nIn S x.toNat)) s) (jlpW D (V' x) t) QQ := by
    intro m
    induction m with
    | zero =>
      intro x s t x0 x1 hm hJ
      have : x = 6 := by omega
      subst this
      obtain ⟨a, b, e1, e2, hq⟩ := h3 s t hJ
      have e1' : C (V (nIn S (6 : Int).toNat)) s = jinr a := e1
      rw [jlpW_r e1', jlpW_r e2]; exact hq
    | succ m ih =>
      intro x s t x0 x1 hm hJ
      by_cases c : sIn S x
      · obtain ⟨r, q, er, eq, hq⟩ := jE2_get (h1 x s t x0 (by omega) c hJ)
        rcases hq with ⟨s', t', rfl, rfl, hj⟩ | ⟨a, b, rfl, rfl, hq⟩
        · have := ih (x + 1) s' t' (by omega) (by omega) (by omega) hj
          rw [nIn_s x0, if_pos c] at this
          rw [jlpW_l er, jlpW_l eq]; exact this
        · rw [jlpW_r (r := some a) er, jlpW_r (r := some b) eq]; exact jE2_some.mpr hq
      · obtain ⟨e, hj⟩ := h2 x s t x0 (by omega) c hJ
        have := ih (x + 1) s t (by omega) (by omega) (by omega) hj
        rw [nIn_s x0, if_neg c, Int.add_zero] at this
        rw [jlpW_l e]; exact this
  exact key 6 0 s t (Int.le_refl _) (by decide) (by decide) h
/-- globals of symbols below n -/
def gJn (C H S : Int) (O : Int → Int → Int → Int → Int) (s t : jS) (n : Int) (u w : jS) : Prop := gW C s u ∧ tGw H t w ∧ ∃ e, gRc C S O u n e ∧ gRt H S O w n e ∧ gVd S O n e
/-- common ones -/
noncomputable def hS (S : Int) (O : Int → Int → Int → Int → Int) (e : Int → Int → Int) : Int → Int → Int := fun f k => if f = 3 ∧ e 3 k = 0 ∧ 0 < cmS S O (e 1) 600 k then 2 else e f k
theorem c_shared (h : gRc C S O s 600 e) (hV : gVd S O 600 e) : ∃ u, u_X35_nameAll_249 s (C + 4275) = some (u, false, 0) ∧ gRc C S O u 600 (hS S O e) ∧ gW C s u := by
  obtain ⟨⟨n0, n1⟩, v2, -⟩ := hV
  rw [eu_X35_nameAll_249]; unfold du_X35_nameAll_249
  rw [eu_X35_nameAll_251]; unfold du_X35_nameAll_251
  obtain ⟨h1, h2, h3, h4⟩ := h
  obtain ⟨w, e', ⟨w1, w2⟩, w3⟩ := loopTo (C := jc2 b_X35_nameAll_251) (fun p w => (gW C s w ∧ ∀ c a k, ¬ (c = 1000 ∧ a = C + 4275 + 17) → jf w c a k = jf s c a k) ∧ ∀ g, 0 ≤ g → g < e 0 0 → jf w 1000 (C + 4275 + 17) g = hC (if g < p then hS S O e 3 g else e 3 g)) (fun p => [C + 4275, p]) 0 (e 0 0) n0 (s := s) (F := fun w => some (w, false, 0)) ⟨⟨gW.rfl, fun _ _ _ _ => rfl⟩, fun g g0 g1 => by rw [if_neg (by omega)]; exact (h3 g g0 g1).2.1⟩ (fun p w p0 p1 ⟨⟨e1, e2⟩, e3⟩ => by
    show ∃ w', b_X35_nameAll_251 w (C + 4275) p = some (.inl (w', [C + 4275, p + 1])) ∧ _
    unfold b_X35_nameAll_251
    have r17 := e3 p p0 p1
    rw [if_neg (Int.lt_irrefl _)] at r17
    obtain ⟨a4, -⟩ := h4 p p0 p1
    have nx : ∀ z, hS S O e 3 p = z → ∀ g, 0 ≤ g → g < e 0 0 → ¬ g = p → hC (if g < p then hS S O e 3 g else e 3 g) = hC (if g < p + 1 then hS S O e 3 g else e 3 g) := fun z _ g g0 g1 gn => by
      by_cases c : g < p
      · rw [if_pos c, if_pos (by omega)]
      · rw [if_neg c, if_neg (by omega)]
    rw [e2 _ _ _ (by omega), h1, if_pos p1, jlt_in p0 (by omega), Option.bind_some, r17, eu_X35_nameAll_285]; unfold du_X35_nameAll_285
    rw [W32_in (z := p + 1) (by omega) (by omega)]
    have hh := (v2 p p0 p1).2
    by_cases c0 : e 3 p = 0
    · rw [if_pos (by rw [c0]; rfl), jlt_in p0 (by omega), Option.bind_some, e2 _ _ _ (by omega), a4]
      by_cases c1 : 0 < cmS S O (e 1) 600 p
      · have c1' : 0 < cmS S O (e 1) (600 : Int).toNat p := c1
        rw [if_pos c1', jst_in p0 (by omega), Option.bind_some]
        obtain ⟨y, Y⟩ : ∃ y, y = jp w 1000 (C + 4275 + 17) p 1 := ⟨_, rfl⟩
        obtain ⟨f1, p1', -⟩ := jpF Y
        have hs : hS S O e 3 p = 2 := by unfold hS; rw [if_pos ⟨rfl, c0, c1⟩]
        rw [← Y]
        refine ⟨y, rfl, ⟨e1.wr Y (by omega), fun c a k q => by rw [f1 _ _ _ (by omega)]; exact e2 c a k q⟩, fun g g0 g1 => ?_⟩
        by_cases c : g = p
        · rw [c, if_pos (by omega), hs]; exact p1'
        · rw [f1 _ _ _ (by omega), ← nx _ rfl g g0 g1 c]; exact e3 g g0 g1
      · have c1' : ¬ 0 < cmS S O (e 1) (600 : Int).toNat p := c1
        have hs : hS S O e 3 p = e 3 p := by unfold hS; rw [if_neg (fun z => c1 z.2.2)]
        rw [if_neg c1']
        refine ⟨w, rfl, ⟨e1, e2⟩, fun g g0 g1 => ?_⟩
        by_cases c : g = p
        · rw [c, if_pos (by omega), hs]; exact r17
        · rw [← nx _ rfl g g0 g1 c]; exact e3 g g0 g1
    · have hs : hS S O e 3 p = e 3 p := by unfold hS; rw [if_neg (fun z => c0 z.2.1)]
      have c1 : e 3 p = 1 := by
        rcases hh with z | z
        · exact absurd z c0
        · exact z.1
      rw [if_neg (by rw [c1]; decide)]
      refine ⟨w, rfl, ⟨e1, e2⟩, fun g g0 g1 => ?_⟩
      by_cases c : g = p
      · rw [c, if_pos (by omega), hs]; exact r17
      · rw [← nx _ rfl g g0 g1 c]; exact e3 g g0 g1) (fun w ⟨⟨e1, e2⟩, e3⟩ => by
    show b_X35_nameAll_251 w (C + 4275) (e 0 0) = _
    unfold b_X35_nameAll_251
    rw [e2 _ _ _ (by omega), h1, if_neg (Int.lt_irrefl _)])
  have N : ∀ f k, ¬ f = 3 → hS S O e f k = e f k := fun f k hf => by unfold hS; rw [if_neg (fun z => hf z.1)]
  have N1 : hS S O e 1 = e 1 := funext fun k => N 1 k (by decide)
  refine ⟨w, e', ⟨by rw [N _ _ (by decide), w2 _ _ _ (by omega)]; exact h1, fun k k1 hk => by rw [N1, w2 _ _ _ (by omega), w2 _ _ _ (by omega)]; exact h2 k k1 hk, fun g g0 g1 => ?_, fun g g0 g1 => ?_⟩, w1⟩
  · rw [N _ _ (by decide)] at g1
    obtain ⟨a1, a2, a3, a4⟩ := h3 g g0 g1
    have := w3 g g0 g1
    rw [if_pos g1] at this
    rw [N 2 _ (by decide), N 4 _ (by decide), w2 _ (C + 4275 + 15) _ (by omega), w2 _ (C + 4275 + 16) _ (by omega), w2 _ (C + 4275 + 18) _ (by omega), w2 _ (C + 4275 + 19) _ (by omega), w2 _ (C + 4275 + 23) _ (by omega)]
    refine ⟨a1, this, fun z => a3 ?_, a4⟩
    unfold hS at z
    by_cases c : (3 : Int) = 3 ∧ e 3 g = 0 ∧ 0 < cmS S O (e 1) 600 g
    · rw [if_pos c] at z; omega
    · rw [if_neg c] at z; exact z
  · rw [N _ _ (by decide)] at g1
    rw [N1, w2 _ _ _ (by omega), w2 _ _ _ (by omega)]; exact h4 g g0 g1
theorem x_names (h : lkB C H S O s t) (hb : jBd s 1 6) : jE2 (m_X35_nameAll s (C + 4275)) (m_X37_findGlobals t H) fun r q => (r.2.1 = false ∧ q.2 = 1 ∧ gW C s r.1 ∧ tGw H t q.1 ∧ ∃ e, gRc C S O r.1 600 (hS S O e) ∧ gRt H S O q.1 600 e ∧ gVd S O 600 e) ∨ lkF C H s t 1 6 r q := by
  have C0 := h.1.1
  have C1 := h.1.2
  rw [em_X35_nameAll, em_X37_findGlobals]; unfold dm_X35_nameAll dm_X37_findGlobals
  obtain ⟨s1, E_s1⟩ : ∃ s1, s1 = jp s 39 (C + 4275) 20 0 := ⟨_, rfl⟩
  obtain ⟨f_s1, p_s1, -⟩ := jpF E_s1
  rw [jls_e, ← E_s1]
  obtain ⟨t1, E_t1⟩ : ∃ t1, t1 = jp t 41 H 81 0 := ⟨_, rfl⟩
  obtain ⟨f_t1, p_t1, -⟩ := jpF E_t1
  rw [jls_e, ← E_t1]
  have L1 : gW C s s1 := gW.rfl.wr E_s1 (by omega)
  have T1 : tGw H t t1 := tGw.rfl.wr E_t1 (by omega)
  obtain ⟨e0, he0⟩ : ∃ e0 : Int → Int → Int, e0 = fun _ _ => 0 := ⟨_, rfl⟩
  have z0 : e0 0 0 = 0 := by rw [he0]
  have J0 : gJn C H S O s t 0 s1 t1 := ⟨L1, T1, e0, ⟨by rw [z0]; exact p_s1, fun x x1 hx => by have := hx.1; omega, fun g g0 g1 => by omega, fun g g0 g1 => by omega⟩, ⟨by rw [z0]; exact p_t1, fun x x1 hx => by have := hx.1.1; omega, fun g g0 g1 => by omega⟩, ⟨by omega, by omega, fun j g j0 j1 g1 => by omega⟩, fun g g0 g1 => by omega, fun x x1 hx => by have := hx.1.1; omega⟩
  rw [eu_X35_nameAll_7, eu_X37_findGlobals_7]; unfold du_X35_nameAll_7 du_X37_findGlobals_7
  have ord := h.2.1
  have hn6 := nIn_lo (S := S) 6
  refine jforU (S := S) (D := jc2 b_X37_findGlobals_7) (C := jc2 b_X35_nameAll_7) (fun x u w => gJn C H S O s t (100 * x) u w) (fun i => [C + 4275, i]) (fun x => [H, x]) J0 (fun x u w x0 x1 hx hj => ?_) (fun x u w x0 x1 hx hj => ?_) (fun u w hj => ?_)
  · obtain ⟨W1, T1, e, g1, g2, g3⟩ := hj
    have hB := (h.gw W1).tgw T1
    obtain ⟨z1, z2, z3, z4⟩ := hB.2.2.1 x x0 x1 hx
    obtain ⟨-, -, n2, n3, -, -⟩ := z3.2.2.1
    have hi := nIn_lt hx x0 (show x < 6 by omega)
    have hi0 := nIn_lo (S := S) x.toNat
    show jE2 (b_X35_nameAll_7 u (C + 4275) (nIn S x.toNat)) (b_X37_findGlobals_7 w H x) _
    unfold b_X35_nameAll_7 b_X37_findGlobals_7
    have hi' : nIn S x.toNat < nIn S (6 : Int).toNat := hi
    rw [hB.2.1.1, if_pos hi', jlt_in hi0.1 (by have : nIn S (6 : Int).toNat ≤ 6 := hn6.2; omega), Option.bind_some, hB.2.1.2 x x0 (by omega) hx, if_pos x1, t_isIn hB, if_pos hx, Option.bind_some, if_neg n10, eu_X35_nameAll_24, eu_X37_findGlobals_26]; unfold du_X35_nameAll_24 du_X37_findGlobals_26
    refine jforE (C := jc4 b_X35_nameAll_24) (D := jc3 b_X37_findGlobals_26) (fun k u w => gJn C H S O s t (100 * x + k) u w) (fun k => [C + 4275, nIn S x.toNat, x, k]) (fun k => [H, x, k]) 0 (O x 2 1 0) n2 ⟨W1, T1, e, by rw [Int.add_zero]; exact g1, by rw [Int.add_zero]; exact g2, by rw [Int.add_zero]; exact g3⟩ (fun k u w k0 k1 hj => ?_) (fun u w hj => ?_)
    · obtain ⟨W1, T1, e, g1, g2, g3⟩ := hj
      have hB := (h.gw W1).tgw T1
      have ex : (100 * x + k) / 100 = x := by omega
      have em : (100 * x + k) % 100 = k := by omega
      have hv : vsy S O (100 * x + k) := ⟨⟨by omega, by omega⟩, by rw [ex]; exact hx, by rw [ex, em]; exact k1⟩
      have c := c_gsym (i := nIn S x.toNat) hB g1 g3 hv
      have d := t_gsym hB g2 g3 hv
      rw [ex, em] at c d
      rw [show 100 * x + k + 1 = 100 * x + (k + 1) by omega] at c d
      rcases c with ⟨c0, u', c1, c2, c3⟩ | ⟨c0, g, hf, u', c1, c2⟩
      · rcases d with ⟨-, d1, d2⟩ | ⟨d0, -⟩
        · exact .inl ⟨u', w, c1, d1, W1.trans c3, T1, e, c2, d2, by
            rw [show 100 * x + (k + 1) = 100 * x + k + 1 by omega]
            obtain ⟨⟨a1, a2⟩, a3, a4⟩ := g3
            refine ⟨⟨a1, by omega, a2.2⟩, fun j j0 j1 => ?_, fun y y1 hy => ?_⟩
            · obtain ⟨⟨b1, b2, b3⟩, b4⟩ := a3 j j0 j1
              exact ⟨⟨b1, by omega, b3⟩, b4.imp id fun ⟨q1, ⟨q2, q3, q4⟩, q5⟩ => ⟨q1, ⟨q2, by omega, q4⟩, q5⟩⟩
            · by_cases cy : y = 100 * x + k
              · rw [cy] at hy; exact absurd c0 hy.2
              · exact a4 y (by omega) hy⟩
        · exact absurd c0 d0
      · rcases d with ⟨d0, -⟩ | ⟨-, g', hf', w', d1, d2⟩
        · exact absurd d0 c0
        have eg := isF_one hf hf'
        subst eg
        rcases c2 with ⟨c3, c4⟩ | ⟨c3, c4, c5⟩
        · rcases d2 with ⟨-, d4⟩ | ⟨d3, -⟩
          · refine .inr ⟨_, _, c4, d4, ?_⟩
            rw [eu_X35_nameAll_162, eu_X37_findGlobals_187]; unfold du_X35_nameAll_162 du_X37_findGlobals_187
            have W2 := W1.trans c1
            have T2 := T1.trans d1
            have sm := W2.1
            have key := lkF.mk (C := C) (H := H) (f := 3) (s := u') (t := w') (by rw [sm.2.2.1]; omega) (by unfold jBd; rw [sm.2.2.1, sm.2.2.2.1, sm.2.2.2.2.1, sm.2.2.2.2.2.1]; exact hb) (by rw [sm.2.2.1]; omega) (by rw [T2.2 _ _ _ (by omega) (by omega)]; exact h.2.2.2.2.2) (by decide) x k
            obtain ⟨r, q, er, eq, hq⟩ := jE2_get key
            rw [er, eq]
            exact jE2_some.mpr (.inr ⟨r, q, rfl, rfl, .inr ((hq.pre W2.lf T2.lf).mono (by decide) (by decide))⟩)
          · exact absurd c3 d3
        · rcases d2 with ⟨d3, -⟩ | ⟨-, d4, d5⟩
          · exact absurd d3 c3
          · refine .inl ⟨u', w', c4, d4, W1.trans c1, T1.trans d1, _, c5, d5, ?_⟩
            have := g3.step (g := g) ⟨hv, c0⟩ hf
            rw [show 100 * x + k + 1 = 100 * x + (k + 1) by omega] at this
            exact this
    · obtain ⟨W1, T1, e, g1, g2, g3⟩ := hj
      have hB := (h.gw W1).tgw T1
      have hsk : ∀ y, 100 * x + O x 2 1 0 ≤ y → y < 100 * (x + 1) → ¬ vsy S O y := fun y y0 y1 hy => by
        have e1 : y / 100 = x := by omega
        have := hy.2.2
        rw [e1] at this; omega
      obtain ⟨z1, z2, z3, z4⟩ := hB.2.2.1 x x0 x1 hx
      have eA : C + 4275 + -4000 + 4041 + 1858 * x = fAt C x := by unfold fAt; omega
      refine ⟨_, _, by
        show b_X35_nameAll_24 u (C + 4275) (nIn S x.toNat) x (O x 2 1 0) = jinr (u_X35_nameAll_243 u (C + 4275) (nIn S x.toNat))
        unfold b_X35_nameAll_24
        rw [jix_in x0 x1, Option.bind_some, eA, c_qCt z1 z3 z4, Option.bind_some, show qCt (O x) 1 = O x 2 1 0 from rfl, if_neg (Int.lt_irrefl _)], by
        show b_X37_findGlobals_26 w H x (O x 2 1 0) = jinr (u_X37_findGlobals_217 w H x)
        unfold b_X37_findGlobals_26
        rw [jlt_in x0 x1, Option.bind_some, z2.2.2.2.1.1, if_neg (Int.lt_irrefl _)], ?_⟩
      rw [eu_X35_nameAll_243, eu_X37_findGlobals_217]; unfold du_X35_nameAll_243 du_X37_findGlobals_217
      rw [W32_in (z := nIn S x.toNat + 1) (by omega) (by omega), W32_in (z := x + 1) (by omega) (by omega)]
      exact jE2_some.mpr (.inl ⟨u, w, rfl, rfl, W1, T1, e, g1.skip (by omega) (by omega) hsk, g2.skip (by omega) hsk, g3.skip (by omega) hsk⟩)
  · obtain ⟨W1, T1, e, g1, g2, g3⟩ := hj
    have hB := (h.gw W1).tgw T1
    have hsk : ∀ y, 100 * x ≤ y → y < 100 * (x + 1) → ¬ vsy S O y := fun y y0 y1 hy => by
      have e1 : y / 100 = x := by omega
      have := hy.2.1
      rw [e1] at this; exact hx this
    refine ⟨?_, W1, T1, e, g1.skip (by omega) (by omega) hsk, g2.skip (by omega) hsk, g3.skip (by omega) hsk⟩
    show b_X37_findGlobals_7 w H x = _
    unfold b_X37_findGlobals_7
    rw [if_pos x1, t_isIn hB, if_neg hx, Option.bind_some, if_pos rfl, eu_X37_findGlobals_217]; unfold du_X37_findGlobals_217
    rw [W32_in (z := x + 1) (by omega) (by omega)]
  · obtain ⟨W1, T1, e, g1, g2, g3⟩ := hj
    have hB := (h.gw W1).tgw T1
    obtain ⟨u', e1, e2, e3⟩ := c_shared g1 g3
    refine ⟨u_X35_nameAll_249 u (C + 4275), some (w, Wz 1), by
      show b_X35_nameAll_7 u (C + 4275) (nIn S 6) = _
      unfold b_X35_nameAll_7
      have : nIn S (6 : Int).toNat = nIn S 6 := rfl
      rw [hB.2.1.1, this, if_neg (Int.lt_irrefl _)], by
      show b_X37_findGlobals_7 w H 6 = _
      unfold b_X37_findGlobals_7
      rw [if_neg (by decide)], ?_⟩
    rw [e1, Wz_1]
    exact jE2_some.mpr (.inl ⟨rfl, rfl, W1.trans e3, T1, e, e2, g2, g3⟩)
end jNames
