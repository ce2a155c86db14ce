/-! directives: numbers are put *-/
section jDirec9
variable {s t u w t' s1 t1 : jS} {v A H b lo W k c a hh x y f d n o j e i : Int} {NL : List (List Int)} {I : pI} {OL : List pvO} {SL : List pvS} {z : pvS} {zo : pvO} {Q Q' : jS → jS → Int → Prop} {q : jS × Bool × Int} {r : jS} {V V' : List Int} {P P' : jS → jS → Prop}
/-- a step of a loop on both sides -/
def lsO (s t : jS) (A H b lo : Int) (NL : List (List Int)) (I : pI) (OL : List pvO) (SL : List pvS) (k : Int) (z : pvS) (V V' : List Int) (x : Option ((jS × List Int) ⊕ (jS × Bool × Int))) (y : Option ((jS × List Int) ⊕ (jS × Int))) (P : jS → jS → Prop) : Prop :=
  (∃ q r, x = some (Sum.inr q) ∧ y = some (Sum.inr (r, 0)) ∧ aBad s t A H q r) ∨
  (∃ u w, x = some (Sum.inl (u, V)) ∧ y = some (Sum.inl (w, V')) ∧ AG u w A H b lo NL I OL SL k z ∧ cFa A s u 0 0 ∧ tF H t w ∧ P u w)
theorem lsO.bind {f : jS × Bool × Int → Option ((jS × List Int) ⊕ (jS × Bool × Int))} {g : jS × Int → Option ((jS × List Int) ⊕ (jS × Int))} {xx : Option (jS × Bool × Int)} {yy : Option (jS × Int)} (h : stO s t A H b lo NL I OL SL k z xx yy Q) (hf : ∀ u d, f (u, true, d) = some (Sum.inr (u, true, d))) (hg : ∀ r, g (r, 0) = some (Sum.inr (r, 0))) (hc : ∀ u w v, AG u w A H b lo NL I OL SL k z → cFa A s u 0 0 → tF H t w → Q u w v → lsO u w A H b lo NL I OL SL k z V V' (f (u, false, v)) (g (w, 1)) P) : lsO s t A H b lo NL I OL SL k z V V' (xx.bind f) (yy.bind g) P := by
  rcases h with ⟨q, r, e1, e2, e3⟩ | ⟨u, w, v, e1, e2, e3, e4, e5, e6⟩
  · refine .inl ⟨q, r, ?_, ?_, e3⟩
    · rw [e1, Option.bind_some, e3.th]; exact hf _ _
    · rw [e2, Option.bind_some]; exact hg _
  · rw [e1, e2, Option.bind_some, Option.bind_some]
    rcases hc u w v e3 e4 e5 e6 with ⟨q, r, d1, d2, d3⟩ | ⟨u', w', d1, d2, d3, d4, d5, d6⟩
    · exact .inl ⟨q, r, d1, d2, d3.after e4 e5⟩
    · exact .inr ⟨u', w', d1, d2, d3, (e4.trans d4 : cFa A s u' (0 + 0) (0 + 0)), e5.trans d5, d6⟩
theorem tw3 {f : Option ((jS × List Int) ⊕ (jS × Int))} (r : jS) : (if (r, (0 : Int)).2 = 0 then jinr (some ((r, (0 : Int)).1, Wz 0)) else f) = some (Sum.inr (r, 0)) := by rw [if_pos rfl, Wz_0]; rfl
/-- values put aside stay, no instruction begins -/
def kpQ (A H : Int) (s t u w : jS) : Prop := (∀ i, vaR s t A H i → vaR u w A H i) ∧ jf w 41 H 26 = jf t 41 H 26 ∧ jf w 41 H 34 = jf t 41 H 34 ∧ jf w 41 H 12 = jf t 41 H 12
theorem kpQ.rfl : kpQ A H s t s t := ⟨fun _ h => h, Eq.refl _, Eq.refl _, Eq.refl _⟩
theorem kpQ.trans (h : kpQ A H s t u w) (g : kpQ A H u w s1 t1) : kpQ A H s t s1 t1 := ⟨fun i hi => g.1 i (h.1 i hi), g.2.1.trans h.2.1, g.2.2.1.trans h.2.2.1, g.2.2.2.trans h.2.2.2⟩
theorem kpQ.of (hu : ∀ a j, A + 20 ≤ a → a ≤ A + 22 → jf u 1000 a j = jf s 1000 a j) (hw : ∀ a j, H + 166 ≤ a → a ≤ H + 168 → jf w 1000 a j = jf t 1000 a j) (h1 : jf w 41 H 26 = jf t 41 H 26) (h2 : jf w 41 H 34 = jf t 41 H 34) (h3 : jf w 41 H 12 = jf t 41 H 12) : kpQ A H s t u w := by
  refine ⟨fun i hi => ?_, h1, h2, h3⟩
  unfold vaR at *
  rw [hu _ _ (by omega) (by omega), hu _ _ (by omega) (by omega), hu _ _ (by omega) (by omega), hw _ _ (by omega) (by omega), hw _ _ (by omega) (by omega), hw _ _ (by omega) (by omega), h3]
  exact hi
theorem puQ.kp (h : puQ A H s t n u w) : kpQ A H s t u w := .of (fun a j a0 a1 => h.1 _ _ _ (by omega) (by omega)) (fun a j a0 a1 => h.2.1 _ _ _ (by omega)) (h.2.1 _ _ _ (by omega)) (h.2.1 _ _ _ (by omega)) (h.2.1 _ _ _ (by omega))
theorem mvQ.kp (h : mvQ A H s t u w) : kpQ A H s t u w := .of (fun a j a0 a1 => h.1 _ _ _ (by omega) (by omega)) (fun a j a0 a1 => h.2 _ _ _ (by omega) (by omega)) (h.2 _ _ _ (by omega) (by omega)) (h.2 _ _ _ (by omega) (by omega)) (h.2 _ _ _ (by omega) (by omega))
/-- the relocations of a number -/
theorem num_mv (h : AG s t A H b lo NL I OL SL k z) (p0 : 0 ≤ f ∧ f ≤ 4096) (hk : 0 ≤ e ∧ e ≤ 2) (j0 : 0 ≤ j) (j8 : j < 800) (hv : vaR s t A H j) (hd : d = if jf t 1000 (H + 168) j = -1 then 1 else 33 + e) : lsO s t A H b lo NL I OL SL k z [A, x, j + 1] [H, x, j + 1] (u_X33_numbers_278 s A x j f e d A) (u_X37_data_361 t H x j f d) (kpQ A H s t) := by
  obtain ⟨a1, a2, a3, a4, a5, a6⟩ := hv
  have n100 := h.1.n100
  have d60 : 0 ≤ d ∧ d ≤ 60 ∧ ¬ rlx d := by
    rw [hd]; unfold rlx; split <;> omega
  rw [eu_X33_numbers_278, eu_X37_data_361]; unfold du_X33_numbers_278 du_X37_data_361
  rw [jlt_in j0 j8, Option.bind_some, jlt_in j0 j8, Option.bind_some, a1, a2, jlt_in j0 j8, Option.bind_some, jlt_in j0 j8, Option.bind_some]
  refine lsO.bind (move2 h p0 ⟨d60.1, d60.2.1⟩ d60.2.2 (by omega) a4) (fun _ _ => rfl) (fun r => tw3 r) fun u w v g c1 c2 q => ?_
  have e22 : jf u 1000 (A + 22) j = jf s 1000 (A + 22) j := q.1 _ _ _ (by omega) (by omega)
  have f22 : jf w 1000 (H + 168) j = jf t 1000 (H + 168) j := q.2 _ _ _ (by omega) (by omega)
  have fin : ∀ {u' w' : jS}, AG u' w' A H b lo NL I OL SL k z → cFa A u u' 0 0 → tF H w w' → kpQ A H s t u' w' → lsO u w A H b lo NL I OL SL k z [A, x, j + 1] [H, x, j + 1] (u_X33_numbers_321 u' A x j) (u_X37_data_420 w' H x j) (kpQ A H s t) := fun {u' w'} g' d1 d2 d3 => by
    rw [eu_X33_numbers_321, eu_X37_data_420]; unfold du_X33_numbers_321 du_X37_data_420
    rw [W32_in (by omega) (by omega)]
    exact .inr ⟨u', w', rfl, rfl, g', d1, d2, d3⟩
  dsimp only
  rw [jth_ff, if_neg n10, jlt_in j0 j8, jlt_in j0 j8]
  simp only [Option.bind_some]
  rw [e22, a3, f22]
  by_cases c : jf t 1000 (H + 168) j = -1
  · rw [if_pos c, if_pos c]
    exact fin g cFa.rfl tF.rfl q.kp
  · rw [if_neg c, if_neg c, W32_in (by omega) (by omega)]
    rw [if_neg c] at hd
    rw [W32_in (z := d + 4) (by omega) (by omega), show d + 4 = 37 + e by omega]
    refine lsO.bind (move2 g p0 (by omega) (by unfold rlx; omega) (by omega) (by unfold jin; omega)) (fun _ _ => rfl) (fun r => tw3 r) fun u' w' v' g' d1 d2 q' => ?_
    dsimp only
    rw [jth_ff, if_neg n10]
    rw [eu_X33_numbers_321, eu_X37_data_420]; unfold du_X33_numbers_321 du_X37_data_420
    rw [W32_in (by omega) (by omega)]
    exact .inr ⟨u', w', rfl, rfl, g', cFa.rfl, tF.rfl, q.kp.trans q'.kp⟩
theorem nums2 (hx : x = 1 ∨ x = 2 ∨ x = 4) : ∀ (m : Nat) (j : Int) (s t : jS), AG s t A H b lo NL I OL SL k z → jf t 41 H 34 < 3 → 0 ≤ j → j + m = z.2.2.2.1 → (∀ i, j ≤ i → i < z.2.2.2.1 → vaR s t A H i) → stO s t A H b lo NL I OL SL k z (u_X33_numbers_174 s A x j) (u_X37_data_256 t H x j) (dQ t H)
  | 0, j, s, t, h, h3, j0, hj, hv => by
    have e1 : u_X33_numbers_174 s A x j = some (s, false, 0) := by
      rw [eu_X33_numbers_174]; unfold du_X33_numbers_174
      refine jlpW_r (r := some (s, false, 0)) ?_
      show b_X33_numbers_174 s A x j = _
      unfold b_X33_numbers_174
      rw [h.2.1.2.2.1, if_neg (by omega)]
    have e2 : u_X37_data_256 t H x j = some (t, 1) := by
      rw [eu_X37_data_256]; unfold du_X37_data_256
      refine jlpW_r (r := some (t, 1)) ?_
      show b_X37_data_256 t H x j = _
      unfold b_X37_data_256
      rw [h.2.1.2.2.2, if_neg (by omega), Wz_1]
    rw [e1, e2]
    exact .ret h rfl
  | m + 1, j, s, t, h, h3, j0, hj, hv => by
    have j1 : j < z.2.2.2.1 := by omega
    have st00 := h.1.st0
    obtain ⟨o1, o2, o3, og, o5⟩ := h.1.op j0 j1
    have j8 : j < 800 := by omega
    have hvj := hv j (Int.le_refl _) j1
    obtain ⟨a1, a2, a3, a4, a5, a6⟩ := hvj
    obtain ⟨⟨s30, c2⟩, aB, -⟩ := h.1.2.2.2.1.2.2.2.1
    have hB := aB (jf t 41 H 34) c2.1 (by omega)
    rw [szM_2 _ h3 c2.1] at hB
    have step : lsO s t A H b lo NL I OL SL k z [A, x, j + 1] [H, x, j + 1] (jc3 b_X33_numbers_174 [A, x, j] s) (jc3 b_X37_data_256 [H, x, j] t) (kpQ A H s t) := by
      show lsO s t A H b lo NL I OL SL k z [A, x, j + 1] [H, x, j + 1] (b_X33_numbers_174 s A x j) (b_X37_data_256 t H x j) (kpQ A H s t)
      unfold b_X33_numbers_174 b_X37_data_256
      rw [h.2.1.2.2.1, if_pos j1, h.2.1.2.2.2, if_pos j1, s30, jlt_in c2.1 (by omega), Option.bind_some, jlt_in j0 j8, Option.bind_some, a2, jlt_in c2.1 (by omega), Option.bind_some, jlt_in j0 j8, Option.bind_some, hB.1]
      generalize hP : jf t 1000 (H + 153) (jf t 41 H 34) = pl at *
      by_cases c : jf t 1000 (H + 167) j = -1
      · rw [if_pos c, if_pos c, eu_X33_numbers_207, eu_X37_data_290]; unfold du_X33_numbers_207 du_X37_data_290
        rw [if_neg n10, if_neg n10, jlt_in j0 j8, Option.bind_some, jlt_in j0 j8, Option.bind_some, a1, eu_X33_numbers_225, eu_X37_data_308]; unfold du_X33_numbers_225 du_X37_data_308
        refine lsO.bind (putNum2 h h3 (by omega) (by omega)) (fun _ _ => rfl) (fun r => tw3 r) fun u w v g d1 d2 q => ?_
        dsimp only
        rw [jth_ff, if_neg n10, if_neg n10, if_neg n10, eu_X33_numbers_321, eu_X37_data_420]; unfold du_X33_numbers_321 du_X37_data_420
        rw [W32_in (by omega) (by omega)]
        exact .inr ⟨u, w, rfl, rfl, g, cFa.rfl, tF.rfl, q.kp⟩
      · rw [if_neg c, if_neg c, eu_X33_numbers_207, eu_X37_data_290]; unfold du_X33_numbers_207 du_X37_data_290
        rw [if_pos rfl, if_pos rfl, eu_X33_numbers_225, eu_X37_data_308]; unfold du_X33_numbers_225 du_X37_data_308
        refine lsO.bind (putNum2 h h3 (by omega) (by omega)) (fun _ _ => rfl) (fun r => tw3 r) fun u w v g d1 d2 q => ?_
        have e22 : jf u 1000 (A + 22) j = jf w 1000 (H + 168) j := by rw [q.1 _ _ _ (by omega) (by omega), q.2.1 _ _ _ (by omega)]; exact a3
        have hvu : vaR u w A H j := q.kp.1 j ⟨a1, a2, a3, a4, a5, a6⟩
        dsimp only
        rw [jth_ff, if_neg n10, if_pos rfl, if_pos rfl, jlt_in j0 j8, Option.bind_some]
        have main : ∀ e d' : Int, 0 ≤ e ∧ e ≤ 2 → d' = 33 + e → lsO u w A H b lo NL I OL SL k z [A, x, j + 1] [H, x, j + 1] (u_X33_numbers_256 u A x j pl e) (if jf w 1000 (H + 168) j = -1 then u_X37_data_361 w H x j pl 1 else u_X37_data_361 w H x j pl d') (kpQ A H s t) := fun e d' he hd => by
          rw [eu_X33_numbers_256]; unfold du_X33_numbers_256
          rw [jlt_in j0 j8, Option.bind_some, e22]
          have base := fun (dd : Int) (hd' : dd = if jf w 1000 (H + 168) j = -1 then 1 else 33 + e) => num_mv (x := x) (d := dd) g (f := pl) (by omega) he j0 j8 hvu hd'
          have up : ∀ {xx yy}, lsO u w A H b lo NL I OL SL k z [A, x, j + 1] [H, x, j + 1] xx yy (kpQ A H u w) → lsO u w A H b lo NL I OL SL k z [A, x, j + 1] [H, x, j + 1] xx yy (kpQ A H s t) := fun {xx yy} hh => by
            rcases hh with hh | ⟨u', w', k1, k2, k3, k4, k5, k6⟩
            · exact .inl hh
            · exact .inr ⟨u', w', k1, k2, k3, k4, k5, q.kp.trans k6⟩
          by_cases cc : jf w 1000 (H + 168) j = -1
          · rw [if_pos cc, if_pos cc]
            exact up (base 1 (by rw [if_pos cc]))
          · rw [if_neg cc, if_neg cc, W32_in (by omega) (by omega), hd]
            exact up (base (33 + e) (by rw [if_neg cc]))
        rcases hx with rfl | rfl | rfl
        · rw [if_pos (show (1 : Int) = 1 from rfl), if_pos (show (1 : Int) = 1 from rfl)]
          exact main 0 33 (by omega) (by omega)
        · rw [if_neg (show ¬ (2 : Int) = 1 by decide), if_pos (show (2 : Int) = 2 from rfl), if_neg (show ¬ (2 : Int) = 1 by decide), if_pos (show (2 : Int) = 2 from rfl)]
          exact main 1 34 (by omega) (by omega)
        · rw [if_neg (show ¬ (4 : Int) = 1 by decide), if_neg (show ¬ (4 : Int) = 2 by decide), if_neg (show ¬ (4 : Int) = 1 by decide), if_neg (show ¬ (4 : Int) = 2 by decide)]
          exact main 2 35 (by omega) (by omega)
    rcases step with ⟨q, r, e1, e2, e3⟩ | ⟨u, w, e1, e2, e3, e4, e5, e6⟩
    · left
      refine ⟨q, r, ?_, ?_, e3⟩
      · rw [eu_X33_numbers_174]; unfold du_X33_numbers_174
        exact jlpW_r (r := some q) e1
      · rw [eu_X37_data_256]; unfold du_X37_data_256
        exact jlpW_r (r := some (r, 0)) e2
    · have s1 : u_X33_numbers_174 s A x j = u_X33_numbers_174 u A x (j + 1) := by
        rw [eu_X33_numbers_174]; unfold du_X33_numbers_174
        exact jlpW_l e1
      have s2 : u_X37_data_256 t H x j = u_X37_data_256 w H x (j + 1) := by
        rw [eu_X37_data_256]; unfold du_X37_data_256
        exact jlpW_l e2
      rw [s1, s2]
      rcases nums2 hx m (j + 1) u w e3 (by rw [e6.2.2.1]; exact h3) (by omega) (by omega) (fun i i0 i1 => e6.1 i (hv i (by omega) i1)) with ⟨q, r, k1, k2, k3⟩ | ⟨u', w', v', k1, k2, k3, k4, k5, k6⟩
      · exact .inl ⟨q, r, k1, k2, k3.after e4 e5⟩
      · refine .inr ⟨u', w', v', k1, k2, k3, (e4.trans k4 : cFa A s u' (0 + 0) (0 + 0)), e5.trans k5, ?_⟩
        show jf w' 41 H 26 = jf t 41 H 26
        have k6' : jf w' 41 H 26 = jf w 41 H 26 := k6
        rw [k6', e6.2.1]
end jDirec9
