/-! the linker: parts of shared globals, both sides *-/
set_option maxRecDepth 100000
section jLsh
variable {s t u w s' t' s0 t0 q' : jS} {a b g k m n p v l x y0 c j X f i H C P Q P' Q' S Si w0 l0 c0 z0 N M rr : Int} {O : Int → Int → Int → Int → Int} {o : Int → Int → Int → Int} {d d' d2 e z z' z2 y y' : Int → Int → Int} {QQ : jS × Bool × Int → jS × Int → Prop}
theorem lkX.w195 {r : jS × Bool × Int} (h : lkX C H s t P Q r w) (E : u = jp w 1000 (H + 195) k v) : lkX C H s t P Q r u := by
  obtain ⟨h1, ⟨h2, h3, h4, h5⟩, h6, h7⟩ := h
  obtain ⟨F, -, -⟩ := jpF E
  exact ⟨h1, ⟨by rw [F _ _ _ (by omega)]; exact h2, h3, by rw [F _ _ _ (by omega)]; exact h4, by rw [F _ _ _ (by omega)]; exact h5⟩, h6, ⟨h7.1.wr E, fun c a k q1 q2 q3 q4 => by rw [F _ _ _ (by omega)]; exact h7.2 c a k q1 q2 q3 q4⟩⟩
/-- a shared global has its part -/
def shR (C H S : Int) (s t : jS) (d z e : Int → Int → Int) (i : Int) : Prop := ∃ p, (4 * nIn S 6 ≤ p ∧ p < d 0 0) ∧ jf s 1000 (C + 4275 + 22) i = p ∧ jf t 1000 (H + 195) i = p ∧ d 1 p = 3 ∧ pCt d z p (e 5 i)
theorem shR.pt (h : shR C H S s t d z e i) (F : jf u 1000 (C + 4275 + 22) i = jf s 1000 (C + 4275 + 22) i) (G : jf w 1000 (H + 195) i = jf t 1000 (H + 195) i) : shR C H S u w (dPt d p n) z e i := by
  obtain ⟨p', ⟨h0, h1⟩, h2, h3, h4, h5⟩ := h
  have n6 := (nIn_lo (S := S) 6).1
  exact ⟨p', ⟨h0, by rw [dPt_0]; omega⟩, by rw [F]; exact h2, by rw [G]; exact h3, by rw [dPt_no (by omega) (by omega)]; exact h4, h5.pt (by omega) h1⟩
theorem shR.sk (h : shR C H S s t d z e i) (hp : ∀ p, p < d 0 0 → jf s 1000 (C + 4275 + 22) i = p → p < d 0 0 - 1) (g : sK d z d' z') (vl : vLy d) (F : jf u 1000 (C + 4275 + 22) i = jf s 1000 (C + 4275 + 22) i) (G : jf w 1000 (H + 195) i = jf t 1000 (H + 195) i) : shR C H S u w d' z' e i := by
  obtain ⟨p', ⟨h0, h1⟩, h2, h3, h4, h5⟩ := h
  have n6 := (nIn_lo (S := S) 6).1
  have := hp p' h1 h2
  exact ⟨p', ⟨h0, by rw [g.1.1]; exact h1⟩, by rw [F]; exact h2, by rw [G]; exact h3, by rw [g.2.2.2.1 _ _ (by omega) (by omega)]; exact h4, h5.sk g vl (by omega) this⟩
def shJ (C H S : Int) (O : Int → Int → Int → Int → Int) (s0 t0 : jS) (e : Int → Int → Int) (g : Int) (s t : jS) : Prop := ∃ d z y, lpS C H S O s0 t0 s t e d z y ∧ 4 * nIn S 6 ≤ d 0 0 ∧ (∀ v j, 0 ≤ v → v < 6 → sIn S v → 0 ≤ j → j < 4 → ptR H S O t d z v j) ∧ (∀ i, 0 ≤ i → i < g → e 3 i = 2 → shR C H S s t d z e i) ∧ ∀ i, 0 ≤ i → i < d 0 1 → pcI O d z i ∧ z 3 i ≤ 5
theorem uJ.sh (h : uJ C H S O s0 t0 e 6 0 s t) : shJ C H S O s0 t0 e 0 s t := by
  obtain ⟨d, z, y, h1, h2, ⟨h3, -⟩, h5, -⟩ := h
  have h2' : d 0 0 = 4 * nIn S 6 := by rw [h2, Int.add_zero]; rfl
  exact ⟨d, z, y, h1, by omega, h3, fun i i0 i1 => by omega, fun i i0 i1 => ⟨(h5 i i0 i1).1, by have := (h5 i i0 i1).2.2 rfl; omega⟩⟩
theorem shJ.no (h : shJ C H S O s0 t0 e g s t) (hg : ¬ e 3 g = 2) : shJ C H S O s0 t0 e (g + 1) s t := by
  obtain ⟨d, z, y, h1, h2, h3, h4, h5⟩ := h
  exact ⟨d, z, y, h1, h2, h3, fun i i0 i1 hi => by
    by_cases c : i = g
    · rw [c] at hi; exact absurd hi hg
    · exact h4 i i0 (by omega) hi, h5⟩
theorem sh_step (h : shJ C H S O s0 t0 e g s t) (g0 : 0 ≤ g) (g1 : g < e 0 0) (hb : jBd s0 837 6663) : (∃ s' t', b_X35_layOut_168 s (C + 4275) g = some (.inl (s', [C + 4275, g + 1])) ∧ b_X37_layParts_115 t H g = some (.inl (t', [H, g + 1])) ∧ shJ C H S O s0 t0 e (g + 1) s' t') ∨ ∃ r q, b_X35_layOut_168 s (C + 4275) g = jinr (some r) ∧ b_X37_layParts_115 t H g = jinr (some q) ∧ q.2 = 0 ∧ lkX C H s0 t0 837 6663 r q.1 := by
  have hJ := h
  obtain ⟨d, z, y, h1, h2, h3, h4, h5⟩ := h
  obtain ⟨hk, ⟨hg, hgt, gv⟩, -, -⟩ := id h1.2.2.1
  have e6 := gv.1.2.1
  obtain ⟨a1, a2, a3, a4, a5⟩ := hg.2.2 g g0 g1
  obtain ⟨b1, b2, b3, b4, b5⟩ := hgt.2.2 g g0 g1
  have w1 : W32 (g + 1) = g + 1 := W32_in (by omega) (by omega)
  obtain ⟨-, ⟨e30, e31⟩, -, gsh, -⟩ := gv.2.1 g g0 g1
  have hc1 : hC (e 3 g) = 1 ↔ e 3 g = 2 := by
    unfold hC
    constructor
    · intro q
      split at q
      · omega
      split at q
      · omega
      split at q
      · assumption
      split at q <;> omega
    · intro q; rw [if_neg (by omega), if_neg (by omega), if_pos q]
  have J17 : jlt s 1000 (C + 4275 + 17) 600 g = some (hC (e 3 g)) := by rw [jlt_in g0 (by omega), a2]
  have J191 : jlt t 1000 (H + 191) 600 g = some (e 3 g) := by rw [jlt_in g0 (by omega), b2]
  unfold b_X35_layOut_168 b_X37_layParts_115
  rw [hg.1, hgt.1, if_pos g1, if_pos g1, J17, J191, Option.bind_some, Option.bind_some]
  by_cases c2 : e 3 g = 2
  · rw [if_pos (hc1.mpr c2), if_pos c2]
    obtain ⟨⟨n1, n2⟩, hpw⟩ := gsh c2
    obtain ⟨a20, a21⟩ := a5 c2
    obtain ⟨b20, b21⟩ := b4 c2
    have J21 : jlt s 1000 (C + 4275 + 21) 600 g = some (e 6 g) := by rw [jlt_in g0 (by omega), a21]
    have J194 : jlt t 1000 (H + 194) 600 g = some (e 6 g) := by rw [jlt_in g0 (by omega), b21]
    rw [J21, J194, Option.bind_some, Option.bind_some]
    obtain ⟨r, q, e1, e2, hq⟩ := lp_part h1 hb (p := 3) (by decide) hpw
    rw [e1, e2, Option.bind_some, Option.bind_some]
    rcases hq with ⟨c3, c4⟩ | ⟨c3, c4, c5, c6, c7, c8⟩
    · have Jst : jst q.1 1000 (H + 195) 600 g (-1) = some (jp q.1 1000 (H + 195) g (-1)) := jst_in g0 (by omega)
      rw [c3, Jst, Option.bind_some]
      obtain ⟨w2, W2⟩ : ∃ w2, w2 = jp q.1 1000 (H + 195) g (-1) := ⟨_, rfl⟩
      obtain ⟨G, p2, -⟩ := jpF W2
      rw [← W2]
      have J195 : jlt w2 1000 (H + 195) 600 g = some (-1) := by rw [jlt_in g0 (by omega), p2]
      rw [J195, Option.bind_some, if_pos rfl, c4.1.1]
      exact .inr ⟨_, _, rfl, rfl, Wz_0, ⟨rfl, c4.1.2⟩, (c4.w195 W2).2⟩
    · have v00 := h1.1.1.1
      have n6 := (nIn_lo (S := S) 6).1
      rw [c3, jth_ff, c4, c6, jst_in g0 (by omega), Option.bind_some, jst_in g0 (by omega), Option.bind_some]
      obtain ⟨u2, U2⟩ : ∃ u2, u2 = jp r.1 1000 (C + 4275 + 22) g (d 0 0) := ⟨_, rfl⟩
      obtain ⟨F, p1, -⟩ := jpF U2
      obtain ⟨w2, W2⟩ : ∃ w2, w2 = jp q.1 1000 (H + 195) g (d 0 0) := ⟨_, rfl⟩
      obtain ⟨G, p2, -⟩ := jpF W2
      rw [← U2, ← W2]
      have hS1 := c7.wsh U2 W2
      obtain ⟨-, ⟨hg2, hgt2, -⟩, -, -⟩ := id hS1.2.2.1
      obtain ⟨-, -, -, -, a5'⟩ := hg2.2.2 g g0 g1
      obtain ⟨-, -, -, b4', -⟩ := hgt2.2.2 g g0 g1
      have D0 : dPt d 3 (lgF (e 6 g)) 0 0 = d 0 0 + 1 := dPt_0
      have D1 : dPt d 3 (lgF (e 6 g)) 0 1 = d 0 1 := dPt_no (by omega) (by omega)
      have ep : d 0 0 = dPt d 3 (lgF (e 6 g)) 0 0 - 1 := by rw [D0]; omega
      have hp : 0 < dPt d 3 (lgF (e 6 g)) 0 0 := by rw [D0]; omega
      have he : dPt d 3 (lgF (e 6 g)) 3 (dPt d 3 (lgF (e 6 g)) 0 0 - 1) = dPt d 3 (lgF (e 6 g)) 4 (dPt d 3 (lgF (e 6 g)) 0 0 - 1) := by rw [← ep, dPt_3, dPt_4]
      have J195 : jlt w2 1000 (H + 195) 600 g = some (d 0 0) := by rw [jlt_in g0 (by omega), p2]
      have J193 : jlt w2 1000 (H + 193) 600 g = some (e 5 g) := by rw [jlt_in g0 (by omega), (b4' c2).1]
      have J22 : jlt u2 1000 (C + 4275 + 22) 600 g = some (d 0 0) := by rw [jlt_in g0 (by omega), p1]
      have J20 : jlt u2 1000 (C + 4275 + 20) 600 g = some (e 5 g) := by rw [jlt_in g0 (by omega), (a5' c2).1]
      rw [J195, Option.bind_some, if_neg (show ¬ d 0 0 = -1 by omega), Option.bind_some, J193, Option.bind_some, J22, Option.bind_some, J20, Option.bind_some]
      obtain ⟨q2, f0, ⟨g1', g22⟩, r', q', f1, f2, hr⟩ := lp_plain (x := -1) (m := 5) hS1 hb hp he (n := e 5 g) ⟨by omega, n2⟩ (fun i i0 i1 => by
        rw [D1] at i1
        exact ⟨(h5 i i0 i1).1.pt, (h5 i i0 i1).2⟩) (by decide)
      obtain ⟨-, ⟨hg3, -, -⟩, -, -⟩ := hS1.2.2.1.bw g1' tBW.rfl
      obtain ⟨-, -, -, -, a5''⟩ := hg3.2.2 g g0 g1
      have K22 : jlt q2.1 1000 (C + 4275 + 22) 600 g = some (d 0 0) := by rw [jlt_in g0 (by omega), g22, p1]
      have K20 : jlt q2.1 1000 (C + 4275 + 20) 600 g = some (e 5 g) := by rw [jlt_in g0 (by omega), (a5'' c2).1]
      rw [← ep] at f0 f1 f2
      rw [f0, f2, Option.bind_some, Option.bind_some, K22, K20, Option.bind_some, Option.bind_some, f1, Option.bind_some]
      rcases hr with ⟨k1, k2⟩ | ⟨k1, k2, d', z', y', k3, k4, k5, k6, k7⟩
      · rw [k2.1.1, if_pos k1]
        exact .inr ⟨_, _, rfl, rfl, Wz_0, ⟨rfl, k2.1.2⟩, k2.2⟩
      · rw [k1, jth_ff, if_neg (by omega), eu_X35_layOut_244, eu_X37_layParts_185]; unfold du_X35_layOut_244 du_X37_layParts_185
        rw [w1]
        refine .inl ⟨_, _, rfl, rfl, d', z', y', k4, by rw [k3.1.1, D0]; omega, fun v j v0 v1 hv j0 j1 => ?_, fun i i0 i1 hi => ?_, k5⟩
        · have hh := h3 v j v0 v1 hv j0 j1
          have nv : nIn S v.toNat < nIn S 6 := nIn_lt hv v0 (x := 6) v1
          have := hh.pt (u := w2) (p := 3) (n := lgF (e 6 g)) v0 j0 (by omega) (by rw [G _ _ _ (by omega)]; exact c8.2 _ _ (by omega))
          exact this.sk j0 (by rw [← ep]; omega) k3 hS1.1.1 fun i => k7.2 _ _ (by omega)
        · by_cases c : i = g
          · rw [c]
            refine ⟨d 0 0, ⟨h2, by rw [k3.1.1, D0]; omega⟩, by rw [k7.1]; exact p1, by rw [k7.2 _ _ (by omega)]; exact p2, ?_, by rw [← ep] at k6; exact k6⟩
            rw [k3.2.2.2.1 1 _ (by omega) (by omega), dPt_1]
          · have hh := h4 i i0 (by omega) hi
            have f22 : jf u2 1000 (C + 4275 + 22) i = jf s 1000 (C + 4275 + 22) i := by rw [F _ _ _ (by omega)]; exact c8.1 i
            have := hh.pt (u := u2) (w := w2) (p := 3) (n := lgF (e 6 g)) f22 (by rw [G _ _ _ (by omega)]; exact c8.2 _ _ (by omega))
            refine this.sk (fun p p0 p1 => ?_) k3 hS1.1.1 (k7.1 i) (k7.2 _ _ (by omega))
            obtain ⟨p', ⟨-, q1⟩, q2, -⟩ := hh
            rw [f22, q2] at p1
            rw [D0]; omega
  · rw [if_neg (fun q => c2 (hc1.mp q)), if_neg c2, eu_X35_layOut_244, eu_X37_layParts_185]; unfold du_X35_layOut_244 du_X37_layParts_185
    rw [w1]
    exact .inl ⟨_, _, rfl, rfl, hJ.no c2⟩
end jLsh
