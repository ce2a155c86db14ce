/-! the assembler: items of an expression, both sides *-/
section jAsm8
variable {s t u v w s1 t1 : jS} {A H b lo N k i j o c a n p X Y d e m x y J : Int} {NL : List (List Int)} {I : pI} {OL : List pvO} {SL : List pvS} {z : pvS} {q : jS × Bool × Int} {r : jS}
/-- what values may change: symbols, digits, here -/
def vaU (A : Int) (s u : jS) : Prop := ∀ c a j, ¬ (c = 37 ∧ a = A ∧ (j = 25 ∨ j = 26 ∨ j = 31 ∨ j = 36)) → ¬ (c = 38) → ¬ (c = 1000 ∧ (a = A + 2 ∨ a = A + 16 ∨ a = A + 17 ∨ A + 23 ≤ a ∧ a ≤ A + 25)) → jf u c a j = jf s c a j
def vaV (H : Int) (t v : jS) : Prop := ∀ c a j, ¬ (c = 41 ∧ a = H ∧ (j = 12 ∨ j = 19 ∨ j = 48 ∨ 52 ≤ j ∧ j ≤ 54)) → ¬ (c = 1000 ∧ (H + 143 ≤ a ∧ a ≤ H + 148 ∨ a = H + 150 ∨ a = H + 151 ∨ H + 163 ≤ a ∧ a ≤ H + 165)) → jf v c a j = jf t c a j
theorem vaU.rfl : vaU A s s := fun _ _ _ _ _ _ => Eq.refl _
theorem vaV.rfl : vaV H t t := fun _ _ _ _ _ => Eq.refl _
theorem vaU.trans (h : vaU A s u) (k : vaU A u w) : vaU A s w := fun c a j z1 z2 z3 => (k c a j z1 z2 z3).trans (h c a j z1 z2 z3)
theorem vaV.trans (h : vaV H t u) (k : vaV H u w) : vaV H t w := fun c a j z1 z2 => (k c a j z1 z2).trans (h c a j z1 z2)
theorem syU.va (h : syU A s u) : vaU A s u := fun c a j z1 z2 z3 => h c a j (by omega) z2 (by omega)
theorem syV.va (h : syV H t v) : vaV H t v := fun c a j z1 z2 => h c a j (by omega) (by omega)
/-- what is written aside -/
def scU (A : Int) (s u : jS) : Prop := jSm s u ∧ ∀ c a j, ¬ (c = 37 ∧ a = A ∧ j = 36) → ¬ (c = 1000 ∧ A + 23 ≤ a ∧ a ≤ A + 25) → jf u c a j = jf s c a j
def scV (H : Int) (t v : jS) : Prop := jSm t v ∧ ∀ c a j, ¬ (c = 41 ∧ a = H ∧ 52 ≤ j ∧ j ≤ 54) → ¬ (c = 1000 ∧ H + 163 ≤ a ∧ a ≤ H + 165) → jf v c a j = jf t c a j
theorem scU.rfl : scU A s s := ⟨jSm.rfl, fun _ _ _ _ _ => Eq.refl _⟩
theorem scV.rfl : scV H t t := ⟨jSm.rfl, fun _ _ _ _ _ => Eq.refl _⟩
theorem scU.trans (h : scU A s u) (k : scU A u w) : scU A s w := ⟨jSm.trans h.1 k.1, fun c a j z1 z2 => (k.2 c a j z1 z2).trans (h.2 c a j z1 z2)⟩
theorem scV.trans (h : scV H t u) (k : scV H u w) : scV H t w := ⟨jSm.trans h.1 k.1, fun c a j z1 z2 => (k.2 c a j z1 z2).trans (h.2 c a j z1 z2)⟩
theorem scU.wr {v2 : jS} (h : scU A s u) (e : v2 = jp u c a k x) (hc : (c = 37 ∧ a = A ∧ k = 36) ∨ (c = 1000 ∧ A + 23 ≤ a ∧ a ≤ A + 25)) : scU A s v2 := by
  subst e
  exact ⟨h.1.jp, fun c' a' j z z1 => by rw [jf_neg (by omega)]; exact h.2 c' a' j z z1⟩
theorem scV.wr {v2 : jS} (h : scV H t u) (e : v2 = jp u c a k x) (hc : (c = 41 ∧ a = H ∧ 52 ≤ k ∧ k ≤ 54) ∨ (c = 1000 ∧ H + 163 ≤ a ∧ a ≤ H + 165)) : scV H t v2 := by
  subst e
  exact ⟨h.1.jp, fun c' a' j z z1 => by rw [jf_neg (by omega)]; exact h.2 c' a' j z z1⟩
theorem wr3.sc {x : vT} (h : wr3 s u (A + 23) (A + 24) (A + 25) k x) : scU A s u := ⟨h.1, fun c a j _ z2 => h.2.2 _ _ _ (by omega)⟩
theorem wr3.scv {x : vT} (h : wr3 t u (H + 163) (H + 164) (H + 165) k x) : scV H t u := ⟨h.1, fun c a j _ z2 => h.2.2 _ _ _ (by omega)⟩
theorem scU.cf (h : scU A s u) : cFa A s u 0 0 := by
  obtain ⟨⟨h1, h2, h3, h4, h5, h6, h7⟩, h8⟩ := h
  exact ⟨⟨by omega, by omega, by omega, h5, h6, h7⟩, fun a _ => ⟨by rw [h1], by rw [h2]⟩, fun c a k _ z => h8 c a k (by omega) (by omega)⟩
theorem scV.tf (h : scV H t u) : tF H t u := ⟨h.1, fun c a k z1 z2 _ _ => h.2 _ _ _ (by omega) (by omega)⟩
theorem scU.va (h : scU A s u) : vaU A s u := fun c a j z1 _ z3 => h.2 _ _ _ (by omega) (by omega)
theorem scV.va (h : scV H t u) : vaV H t u := fun c a j z1 z2 => h.2 _ _ _ (by omega) (by omega)
theorem scV.syk (h : scV H t u) : syK H t u := syK.cg (h.2 _ _ _ (by omega) (by omega)) fun i => h.2 _ _ _ (by omega) (by omega)
theorem AR.sc (h : AR s t A H b lo NL I OL SL k z) (c1 : scU A s u) (c2 : scV H t v) : AR u v A H b lo NL I OL SL k z := by
  obtain ⟨aS, aT, aI, aB, aM, aSt, aK, aH, a0⟩ := h.2.2.2.1
  have fu := c1.2
  have fv := c2.2
  exact h.mk c1.cf c2.tf ⟨aS.cg (fun c a j _ => fu _ _ _ (by omega) (by omega)) (fun c a j _ => fv _ _ _ (by omega) (by omega)), aT.cg (fun c a j _ => fu _ _ _ (by omega) (by omega)) (fun c a j _ => fv _ _ _ (by omega) (by omega)) (by rw [fv _ _ _ (by omega) (by omega)]; omega), aI.cg fun a j _ => fv _ _ _ (by omega) (by omega), aB.cg (fun c a j _ => fu _ _ _ (by omega) (by omega)) (fun c a j _ => fv _ _ _ (by omega) (by omega)), aM.cg (fun c a j _ => fu _ _ _ (by omega) (by omega)) (fun c a j _ => fv _ _ _ (by omega) (by omega)), aSt.cg (fun c a j _ => fu _ _ _ (by omega) (by omega)) (fun c a j _ => fv _ _ _ (by omega) (by omega)), aK.cg (fun c a j _ => fu _ _ _ (by omega) (by omega)) (fun c a j _ => fv _ _ _ (by omega) (by omega)), aH.cg (fun c a j _ => fu _ _ _ (by omega) (by omega)) (fun c a j _ => fv _ _ _ (by omega) (by omega)) (by rw [fv _ _ _ (by omega) (by omega)]; omega), by rw [fv _ _ _ (by omega) (by omega)]; exact a0⟩
/-- a value that is good: symbols there are -/
def vGo (n : Int) (x : vT) : Prop := jin x.1 ∧ (-1 ≤ x.2.1 ∧ x.2.1 < n) ∧ (-1 ≤ x.2.2 ∧ x.2.2 < n)
theorem vGo.up {x : vT} (h : vGo n x) (hn : n ≤ m) : vGo m x := ⟨h.1, by have := h.2.1; omega, by have := h.2.2; omega⟩
theorem vGo.turn {y : vT} (h : vGo n y) : vGo n (pTurn y) := ⟨W32_lo _, h.2.2, h.2.1⟩
theorem vGo.ad {x y : vT} (h : vGo n x) (g : vGo n y) (hn : 0 ≤ n) : vGo n (pAd x y) := by
  have h1 := h.2.1
  have h2 := h.2.2
  have g1 := g.2.1
  have g2 := g.2.2
  have ha : -1 ≤ (if x.2.1 = -1 then y.2.1 else x.2.1) ∧ (if x.2.1 = -1 then y.2.1 else x.2.1) < n := by split <;> omega
  have hb : -1 ≤ (if x.2.2 = -1 then y.2.2 else x.2.2) ∧ (if x.2.2 = -1 then y.2.2 else x.2.2) < n := by split <;> omega
  unfold pAd
  generalize (if x.2.1 = -1 then y.2.1 else x.2.1) = aa at *
  generalize (if x.2.2 = -1 then y.2.2 else x.2.2) = bb at *
  by_cases c : aa = bb
  · rw [if_pos c]; exact ⟨W32_lo _, by show (-1 : Int) ≤ -1 ∧ (-1 : Int) < n; omega, by show (-1 : Int) ≤ -1 ∧ (-1 : Int) < n; omega⟩
  · rw [if_neg c]; exact ⟨W32_lo _, ha, hb⟩
theorem work_jin (x y : Int) : jin (v_X39_worked o x y) := by
  unfold v_X39_worked
  repeat' split
  all_goals first | exact W32_lo _ | exact I_div_b _ _ | exact I_rem_b _ _ | exact (by unfold jin; omega) | exact I_shl_b (by rw [I_and_31]; omega) (by rw [I_and_31]; omega) | exact I_ushr_b (by rw [I_and_31]; omega) (by rw [I_and_31]; omega) | exact I_and_b _ _ | exact I_xor_b _ _ | exact I_or_b _ _
theorem vGo.re {x y : vT} (hn : 0 ≤ n) : vGo n (pRe o x y) := ⟨work_jin _ _, by show (-1 : Int) ≤ -1 ∧ (-1 : Int) < n; omega, by show (-1 : Int) ≤ -1 ∧ (-1 : Int) < n; omega⟩
/-- the same values on both sides -/
def astk (s t : jS) (A H n : Int) : Prop := jf s 37 A 36 = n ∧ 0 ≤ n ∧ ∀ i, 0 ≤ i → i < n → rd3 s (A + 23) (A + 24) (A + 25) i = rd3 t (H + 163) (H + 164) (H + 165) i ∧ vGo (jf t 41 H 12) (rd3 t (H + 163) (H + 164) (H + 165) i)
theorem rd3_cg {p q r : Int} (h : ∀ a, jf u 1000 a k = jf s 1000 a k ∨ ¬ (a = p ∨ a = q ∨ a = r)) : rd3 u p q r k = rd3 s p q r k := by
  unfold rd3
  rw [(h p).resolve_right (by omega), (h q).resolve_right (by omega), (h r).resolve_right (by omega)]
theorem astk.va (h : astk s t A H n) (c1 : ∀ a j, (a = A + 23 ∨ a = A + 24 ∨ a = A + 25) → jf u 1000 a j = jf s 1000 a j) (c0 : jf u 37 A 36 = jf s 37 A 36) (c2 : ∀ a j, (a = H + 163 ∨ a = H + 164 ∨ a = H + 165) → jf v 1000 a j = jf t 1000 a j) (hn : jf t 41 H 12 ≤ jf v 41 H 12) : astk u v A H n := by
  refine ⟨by rw [c0]; exact h.1, h.2.1, fun i i0 i1 => ?_⟩
  obtain ⟨h1, h2⟩ := h.2.2 i i0 i1
  have e1 : rd3 u (A + 23) (A + 24) (A + 25) i = rd3 s (A + 23) (A + 24) (A + 25) i := by unfold rd3; rw [c1 _ _ (by omega), c1 _ _ (by omega), c1 _ _ (by omega)]
  have e2 : rd3 v (H + 163) (H + 164) (H + 165) i = rd3 t (H + 163) (H + 164) (H + 165) i := by unfold rd3; rw [c2 _ _ (by omega), c2 _ _ (by omega), c2 _ _ (by omega)]
  rw [e1, e2]
  exact ⟨h1, h2.up hn⟩
/-- one of them is written on both sides -/
theorem astk.wr {x : vT} (h : astk s t A H n) (w1 : wr3 s u (A + 23) (A + 24) (A + 25) m x) (w2 : wr3 t v (H + 163) (H + 164) (H + 165) m x) (e : s1 = jp u 37 A 36 d) (hx : vGo (jf t 41 H 12) x) (hd : 0 ≤ d ∧ ∀ i, 0 ≤ i → i < d → i < n ∨ i = m) : astk s1 v A H d := by
  obtain ⟨f1, p1, -⟩ := jpF e
  have v12 : jf v 41 H 12 = jf t 41 H 12 := w2.2.2 _ _ _ (by omega)
  refine ⟨p1, hd.1, fun i i0 i1 => ?_⟩
  have e0 : rd3 s1 (A + 23) (A + 24) (A + 25) i = rd3 u (A + 23) (A + 24) (A + 25) i := by unfold rd3; rw [f1 _ _ _ (by omega), f1 _ _ _ (by omega), f1 _ _ _ (by omega)]
  rw [e0, v12]
  by_cases ci : i = m
  · subst ci; rw [w1.2.1, w2.2.1]; exact ⟨rfl, hx⟩
  · have hi := (hd.2 i i0 i1).resolve_right ci
    obtain ⟨h1, h2⟩ := h.2.2 i i0 hi
    have e1 : rd3 u (A + 23) (A + 24) (A + 25) i = rd3 s (A + 23) (A + 24) (A + 25) i := by unfold rd3; rw [w1.2.2 _ _ _ (by omega), w1.2.2 _ _ _ (by omega), w1.2.2 _ _ _ (by omega)]
    have e2 : rd3 v (H + 163) (H + 164) (H + 165) i = rd3 t (H + 163) (H + 164) (H + 165) i := by unfold rd3; rw [w2.2.2 _ _ _ (by omega), w2.2.2 _ _ _ (by omega), w2.2.2 _ _ _ (by omega)]
    rw [e1, e2]; exact ⟨h1, h2⟩
/-- an operand's fault in states between -/
theorem needAt3 (hC : cCx s A b lo NL I OL SL) (hB : jBd s 4 40) (h0 : jf t 41 H 42 = 0) (ho : ¬ o = 0) (j0 : 0 ≤ z.2.2.1 + j) (j1 : z.2.2.1 + j < OL.length) (hl : (tO OL (z.2.2.1 + j)).2.2.2.2.2.2.length ≤ 3000) (hO : OL.length ≤ 800) (hf : jf s 37 A 34 = z.2.2.1) : ∃ q r, m_X33_needAt s A 0 o j = some q ∧ m_X37_fail_2 t H o (opQ1 (tO OL (z.2.2.1 + j)) 5) = some (r, 0) ∧ aBad s t A H q r := by
  have c4 := hC.2.2.2.1
  obtain ⟨q, r, e1, e2, e3⟩ := wrong2 (p := opQ1 (tO OL (z.2.2.1 + j)) 5) (A := A) (H := H) ⟨by omega, hB⟩ ⟨by omega, by omega⟩ h0 ho
  refine ⟨q, r, ?_, e2, e3⟩
  rw [em_X33_needAt]; unfold dm_X33_needAt
  rw [if_pos rfl, hf, W32_in (by omega) (by omega), c_operand hC.1 j0 j1 (by decide) (by decide) (by omega), Option.bind_some]
  exact e1
end jAsm8
