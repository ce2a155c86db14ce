/-! directives: options *-/
set_option maxRecDepth 100000
section jDirec6
variable {s t u w t' : jS} {v A H b lo W k c a hh x y f d n o j e : Int} {l : List Int} {NL : List (List Int)} {I : pI} {OL : List pvO} {SL : List pvS} {z : pvS} {zo : pvO} {Q Q' : jS → jS → Int → Prop} {q : jS × Bool × Int} {r : jS} {X Y : Int} {xx : Option (jS × Bool × Int)} {yy : Option (jS × Int)}
/-- a fault on both sides, told outside *-/
def aBo (s t : jS) (A H : Int) (q : jS × Bool × Int) (r : jS) : Prop := ∃ f p, ¬ f = 0 ∧ q.2.1 = true ∧ (0 ≤ q.2.2 ∧ jK q.1 q.2.2 = 2054) ∧ (jf q.1 37 A 37 = f ∧ jf q.1 37 A 38 = p) ∧ (jf r 41 H 42 = f ∧ jf r 41 H 43 = p) ∧ cFo A s q.1 1 6 ∧ tF H t r
theorem aBad.out (h : aBad s t A H q r) : aBo s t A H q r := by
  obtain ⟨f, p, h1, h2, h3, h4, h5, h6, h7⟩ := h
  exact ⟨f, p, h1, h2, h3, h4, h5, h6.o, h7⟩
theorem aBo.after (h : aBo u w A H q r) (k : cFo A s u 0 0) (m : tF H t w) : aBo s t A H q r := by
  obtain ⟨f, p, h1, h2, h3, h4, h5, h6, h7⟩ := h
  exact ⟨f, p, h1, h2, h3, h4, h5, (k.trans h6 : cFo A s q.1 (0 + 1) (0 + 6)), m.trans h7⟩
theorem aBo.th (h : aBo s t A H q r) : q = (q.1, true, q.2.2) := by
  obtain ⟨_, _, _, h2, -⟩ := h
  obtain ⟨q1, q2, q3⟩ := q
  have : q2 = true := h2
  subst this
  rfl
/-- a step, told outside -/
def stW (s t : jS) (A H b lo : Int) (NL : List (List Int)) (I : pI) (OL : List pvO) (SL : List pvS) (k : Int) (z : pvS) (x : Option (jS × Bool × Int)) (y : Option (jS × Int)) (Q : jS → jS → Int → Prop) : Prop :=
  (∃ q r, x = some q ∧ y = some (r, 0) ∧ aBo s t A H q r) ∨
  (∃ u w v, x = some (u, false, v) ∧ y = some (w, 1) ∧ AG u w A H b lo NL I OL SL k z ∧ cFo A s u 0 0 ∧ tF H t w ∧ Q u w v)
theorem stO.out (h : stO s t A H b lo NL I OL SL k z xx yy Q) : stW s t A H b lo NL I OL SL k z xx yy Q := by
  rcases h with ⟨q, r, e1, e2, e3⟩ | ⟨u, w, v, e1, e2, e3, e4, e5, e6⟩
  · exact .inl ⟨q, r, e1, e2, e3.out⟩
  · exact .inr ⟨u, w, v, e1, e2, e3, e4.o, e5, e6⟩
theorem stW.pre (h : stW u w A H b lo NL I OL SL k z xx yy Q) (c1 : cFo A s u 0 0) (c2 : tF H t w) : stW s t A H b lo NL I OL SL k z xx yy Q := by
  rcases h with ⟨q, r, e1, e2, e3⟩ | ⟨u', w', v, e1, e2, e3, e4, e5, e6⟩
  · exact .inl ⟨q, r, e1, e2, e3.after c1 c2⟩
  · exact .inr ⟨u', w', v, e1, e2, e3, (c1.trans e4 : cFo A s u' (0 + 0) (0 + 0)), c2.trans e5, e6⟩
theorem stW.mono (h : stW s t A H b lo NL I OL SL k z xx yy Q) (hq : ∀ u w v, Q u w v → Q' u w v) : stW s t A H b lo NL I OL SL k z xx yy Q' := by
  rcases h with h | ⟨u, w, v, e1, e2, e3, e4, e5, e6⟩
  · exact .inl h
  · exact .inr ⟨u, w, v, e1, e2, e3, e4, e5, hq _ _ _ e6⟩
/-- the component's end of a step -/
theorem stW.fin (h : stW s t A H b lo NL I OL SL k z xx yy Q) (hq : ∀ u w v v', Q u w v → Q u w v') : stW s t A H b lo NL I OL SL k z (xx.bind fun q => jth q.2.1 (some (q.1, true, q.2.2)) (some (q.1, false, 0))) (yy.bind fun q => some (q.1, Wz q.2)) Q := by
  rcases h with ⟨q, r, e1, e2, e3⟩ | ⟨u, w, v, e1, e2, e3, e4, e5, e6⟩
  · refine .inl ⟨q, r, ?_, ?_, e3⟩
    · rw [e1, Option.bind_some, e3.th]; rfl
    · rw [e2, Option.bind_some, Wz_0]
  · refine .inr ⟨u, w, 0, ?_, ?_, e3, e4, e5, hq _ _ _ _ e6⟩
    · rw [e1, Option.bind_some]
      dsimp only
      rw [jth_ff]
    · rw [e2, Option.bind_some, Wz_1]
/-- options are changed -/
theorem AG.kep (h : AG s t A H b lo NL I OL SL k z) (fu : ∀ c a k, ¬ (c = 37 ∧ a = A ∧ (k = 29 ∨ k = 39 ∨ k = 40)) → ¬ (c = 1002 ∧ (a = A + 18 ∨ a = A + 19)) → jf u c a k = jf s c a k) (cF : cFa A s u 0 0) (gv : ∀ c a k, ¬ (c = 41 ∧ a = H ∧ 35 ≤ k ∧ k ≤ 37) → ¬ (c = 1002 ∧ (a = H + 161 ∨ a = H + 162)) → jf w c a k = jf t c a k) (tf : tF H t w) (hk : aKep (jf u) (jf w) A H) : AG u w A H b lo NL I OL SL k z := by
  obtain ⟨aS, aT, aI, aB, aM, aSt, aK, aH, a0⟩ := h.1.2.2.2.1
  have R : AR u w A H b lo NL I OL SL k z := h.1.mk cF tf ⟨aS.cg (fun c a j _ => fu _ _ _ (by omega) (by omega)) (fun c a j _ => gv _ _ _ (by omega) (by omega)), aT.cg (fun c a j _ => fu _ _ _ (by omega) (by omega)) (fun c a j _ => gv _ _ _ (by omega) (by omega)) (by rw [gv _ _ _ (by omega) (by omega)]; omega), aI.cg fun a j _ => gv _ _ _ (by omega) (by omega), aB.cg (fun c a j _ => fu _ _ _ (by omega) (by omega)) (fun c a j _ => gv _ _ _ (by omega) (by omega)), aM.cg (fun c a j _ => fu _ _ _ (by omega) (by omega)) (fun c a j _ => gv _ _ _ (by omega) (by omega)), aSt.cg (fun c a j _ => fu _ _ _ (by omega) (by omega)) (fun c a j _ => gv _ _ _ (by omega) (by omega)), hk, aH.cg (fun c a j _ => fu _ _ _ (by omega) (by omega)) (fun c a j _ => gv _ _ _ (by omega) (by omega)) (by rw [gv _ _ _ (by omega) (by omega)]; omega), by rw [gv _ _ _ (by omega) (by omega)]; exact a0⟩
  exact h.bk R ⟨fu _ _ _ (by omega) (by omega), fu _ _ _ (by omega) (by omega)⟩ ⟨gv _ _ _ (by omega) (by omega), gv _ _ _ (by omega) (by omega)⟩
theorem opt_set (h : AG s t A H b lo NL I OL SL k z) (hx : x = 0 ∨ x = 1) (hi : y = 39 ∧ d = 35 ∨ y = 40 ∧ d = 36) : stO s t A H b lo NL I OL SL k z ((jzb x).bind fun v1 => jls (jp s 37 A y v1) fun s2 => some (s2, false, 0)) ((jzb x).bind fun v1 => jls (jp t 41 H d v1) fun s2 => some (s2, Wz 1)) (dQ t H) := by
  rw [jzb_in hx]
  simp only [jls, Option.bind_some]
  obtain ⟨u1, E1⟩ : ∃ u1, u1 = jp s 37 A y x := ⟨_, rfl⟩
  obtain ⟨w1, G1⟩ : ∃ w1, w1 = jp t 41 H d x := ⟨_, rfl⟩
  obtain ⟨f1, p1, -⟩ := jpF E1
  obtain ⟨g1, r1, -⟩ := jpF G1
  rw [← E1, ← G1, Wz_1]
  have cF := cF1 (A := A) E1 (by omega)
  have tf : tF H t w1 := tF.rfl.wr G1 (by omega)
  obtain ⟨k1, k2, k3, k4⟩ := h.1.2.2.2.1.2.2.2.2.2.2.1
  have hk : aKep (jf u1) (jf w1) A H := by
    refine ⟨by rw [f1 _ _ _ (by omega), g1 _ _ _ (by omega)]; exact k1, fun i i0 i1 => ?_, ?_, ?_⟩
    · rw [g1 _ _ _ (by omega)] at i1
      rw [f1 _ _ _ (by omega), f1 _ _ _ (by omega), g1 _ _ _ (by omega), g1 _ _ _ (by omega)]; exact k2 i i0 i1
    · rcases hi with ⟨a1, a2⟩ | ⟨a1, a2⟩
      · subst a1 a2; rw [p1, r1]; exact ⟨rfl, hx⟩
      · rw [f1 _ _ _ (by omega), g1 _ _ _ (by omega)]; exact k3
    · rcases hi with ⟨a1, a2⟩ | ⟨a1, a2⟩
      · rw [f1 _ _ _ (by omega), g1 _ _ _ (by omega)]; exact k4
      · subst a1 a2; rw [p1, r1]; exact ⟨rfl, hx⟩
  exact .inr ⟨u1, w1, 0, rfl, rfl, h.kep (fun c a k z1 _ => f1 _ _ _ (by omega)) cF (fun c a k z1 _ => g1 _ _ _ (by omega)) tf hk, cF, tf, g1 _ _ _ (by omega)⟩
theorem opt_push (h : AG s t A H b lo NL I OL SL k z) : stO s t A H b lo NL I OL SL k z (if jf s 37 A 29 < 8 then u_X33_option_275 s A 1 A else u_X33_option_275 s A 0 A) (if jf t 41 H 37 = 8 then (m_X37_fail t H 17).bind fun q9 => some (q9.1, Wz q9.2) else (jst t 1002 (H + 161) 8 (jf t 41 H 37) (Wz (jf t 41 H 35))).bind fun s10 => (jst s10 1002 (H + 162) 8 (jf s10 41 H 37) (Wz (jf s10 41 H 36))).bind fun s11 => jls (jp s11 41 H 37 (W32 ((jf s11 41 H 37) + 1))) fun s12 => some (s12, Wz 1)) (dQ t H) := by
  obtain ⟨k1, k2, k3, k4⟩ := h.1.2.2.2.1.2.2.2.2.2.2.1
  rw [k1.1]
  by_cases c : jf t 41 H 37 = 8
  · rw [if_pos c, if_neg (by omega), eu_X33_option_275]; unfold du_X33_option_275
    exact .bad0 h (by decide) fun _ _ => rfl
  rw [if_neg c, if_pos (by omega), eu_X33_option_275]; unfold du_X33_option_275
  rw [needOk (by decide)]
  dsimp only
  rw [jth_ff, k1.1, k3.1, Wz_in k3.2]
  generalize hn : jf t 41 H 37 = n at *
  obtain ⟨u1, E1⟩ : ∃ u1, u1 = jp s 1002 (A + 18) n (jf t 41 H 35) := ⟨_, rfl⟩
  obtain ⟨u2, E2⟩ : ∃ u2, u2 = jp u1 1002 (A + 19) n (jf t 41 H 36) := ⟨_, rfl⟩
  obtain ⟨u3, E3⟩ : ∃ u3, u3 = jp u2 37 A 29 (n + 1) := ⟨_, rfl⟩
  obtain ⟨w1, G1⟩ : ∃ w1, w1 = jp t 1002 (H + 161) n (jf t 41 H 35) := ⟨_, rfl⟩
  obtain ⟨w2, G2⟩ : ∃ w2, w2 = jp w1 1002 (H + 162) n (jf t 41 H 36) := ⟨_, rfl⟩
  obtain ⟨w3, G3⟩ : ∃ w3, w3 = jp w2 41 H 37 (n + 1) := ⟨_, rfl⟩
  obtain ⟨f1, p1, -⟩ := jpF E1
  obtain ⟨f2, p2, -⟩ := jpF E2
  obtain ⟨f3, p3, -⟩ := jpF E3
  obtain ⟨g1, r1, -⟩ := jpF G1
  obtain ⟨g2, r2, -⟩ := jpF G2
  obtain ⟨g3, r3, -⟩ := jpF G3
  rw [jst_in k1.2.1 (by omega), Option.bind_some, ← E1, f1 37 A 29 (by omega), k1.1, f1 37 A 40 (by omega), k4.1, Wz_in k4.2, jst_in k1.2.1 (by omega), Option.bind_some, ← E2]
  rw [jst_in k1.2.1 (by omega), Option.bind_some, ← G1, g1 41 H 37 (by omega), hn, g1 41 H 36 (by omega), Wz_in k4.2, jst_in k1.2.1 (by omega), Option.bind_some, ← G2]
  simp only [jls]
  rw [f2 37 A 29 (by omega), f1 37 A 29 (by omega), k1.1, g2 41 H 37 (by omega), g1 41 H 37 (by omega), hn, W32_in (by omega) (by omega), ← E3, ← G3, Wz_1]
  have cF : cFa A s u3 0 0 := ((cF1 (A := A) E1 (by omega)).wr E2 (by omega)).wr E3 (by omega)
  have tf : tF H t w3 := ((tF.rfl.wr G1 (by omega)).wr G2 (by omega)).wr G3 (by omega)
  have hk : aKep (jf u3) (jf w3) A H := by
    refine ⟨by rw [p3, r3]; exact ⟨rfl, by omega, by omega⟩, fun i i0 i1 => ?_, ?_, ?_⟩
    · rw [r3] at i1
      by_cases ci : i = n
      · subst ci
        rw [f3 _ _ _ (by omega), f2 _ _ _ (by omega), p1, f3 _ _ _ (by omega), p2, g3 _ _ _ (by omega), g2 _ _ _ (by omega), r1, g3 _ _ _ (by omega), r2]
        exact ⟨⟨rfl, k3.2⟩, rfl, k4.2⟩
      · rw [f3 _ _ _ (by omega), f2 _ _ _ (by omega), f1 _ _ _ (by omega), f3 _ _ _ (by omega), f2 _ _ _ (by omega), f1 _ _ _ (by omega), g3 _ _ _ (by omega), g2 _ _ _ (by omega), g1 _ _ _ (by omega), g3 _ _ _ (by omega), g2 _ _ _ (by omega), g1 _ _ _ (by omega)]
        exact k2 i i0 (by omega)
    · rw [f3 _ _ _ (by omega), f2 _ _ _ (by omega), f1 _ _ _ (by omega), g3 _ _ _ (by omega), g2 _ _ _ (by omega), g1 _ _ _ (by omega)]; exact k3
    · rw [f3 _ _ _ (by omega), f2 _ _ _ (by omega), f1 _ _ _ (by omega), g3 _ _ _ (by omega), g2 _ _ _ (by omega), g1 _ _ _ (by omega)]; exact k4
  exact .inr ⟨u3, w3, 0, rfl, rfl, h.kep (fun c a k z1 z2 => by rw [f3 _ _ _ (by omega), f2 _ _ _ (by omega), f1 _ _ _ (by omega)]) cF (fun c a k z1 z2 => by rw [g3 _ _ _ (by omega), g2 _ _ _ (by omega), g1 _ _ _ (by omega)]) tf hk, cF, tf, by show jf w3 41 H 26 = jf t 41 H 26; rw [g3 _ _ _ (by omega), g2 _ _ _ (by omega), g1 _ _ _ (by omega)]⟩
theorem opt_pop (h : AG s t A H b lo NL I OL SL k z) : stO s t A H b lo NL I OL SL k z (if 0 < jf s 37 A 29 then u_X33_option_330 s A 1 A else u_X33_option_330 s A 0 A) (if jf t 41 H 37 = 0 then (m_X37_fail t H 17).bind fun q13 => some (q13.1, Wz q13.2) else jls (jp t 41 H 37 (W32 ((jf t 41 H 37) - 1))) fun s14 => (jlt s14 1002 (H + 161) 8 (jf s14 41 H 37)).bind fun v15 => (jzb v15).bind fun v16 => jls (jp s14 41 H 35 v16) fun s17 => (jlt s17 1002 (H + 162) 8 (jf s17 41 H 37)).bind fun v18 => (jzb v18).bind fun v19 => jls (jp s17 41 H 36 v19) fun s20 => some (s20, Wz 1)) (dQ t H) := by
  obtain ⟨k1, k2, k3, k4⟩ := h.1.2.2.2.1.2.2.2.2.2.2.1
  rw [k1.1]
  by_cases c : jf t 41 H 37 = 0
  · rw [if_pos c, if_neg (by omega), eu_X33_option_330]; unfold du_X33_option_330
    exact .bad0 h (by decide) fun _ _ => rfl
  rw [if_neg c, if_pos (by omega), eu_X33_option_330]; unfold du_X33_option_330
  rw [needOk (by decide)]
  dsimp only
  rw [jth_ff]
  simp only [jls]
  rw [k1.1]
  obtain ⟨⟨a1, a2⟩, b1, b2⟩ := k2 (jf t 41 H 37 - 1) (by omega) (by omega)
  generalize hn : jf t 41 H 37 = n at *
  obtain ⟨u1, E1⟩ : ∃ u1, u1 = jp s 37 A 29 (n - 1) := ⟨_, rfl⟩
  obtain ⟨u2, E2⟩ : ∃ u2, u2 = jp u1 37 A 39 (jf t 1002 (H + 161) (n - 1)) := ⟨_, rfl⟩
  obtain ⟨u3, E3⟩ : ∃ u3, u3 = jp u2 37 A 40 (jf t 1002 (H + 162) (n - 1)) := ⟨_, rfl⟩
  obtain ⟨w1, G1⟩ : ∃ w1, w1 = jp t 41 H 37 (n - 1) := ⟨_, rfl⟩
  obtain ⟨w2, G2⟩ : ∃ w2, w2 = jp w1 41 H 35 (jf t 1002 (H + 161) (n - 1)) := ⟨_, rfl⟩
  obtain ⟨w3, G3⟩ : ∃ w3, w3 = jp w2 41 H 36 (jf t 1002 (H + 162) (n - 1)) := ⟨_, rfl⟩
  obtain ⟨f1, p1, -⟩ := jpF E1
  obtain ⟨f2, p2, -⟩ := jpF E2
  obtain ⟨f3, p3, -⟩ := jpF E3
  obtain ⟨g1, r1, -⟩ := jpF G1
  obtain ⟨g2, r2, -⟩ := jpF G2
  obtain ⟨g3, r3, -⟩ := jpF G3
  rw [W32_in (by omega) (by omega), ← E1, ← G1, p1, r1, jlt_in (by omega) (by omega), Option.bind_some, f1 _ _ _ (by omega), a1, jzb_in a2, Option.bind_some, ← E2, f2 37 A 29 (by omega), p1, jlt_in (by omega) (by omega), Option.bind_some, f2 _ _ _ (by omega), f1 _ _ _ (by omega), b1, jzb_in b2, Option.bind_some, ← E3]
  rw [jlt_in (by omega) (by omega), Option.bind_some, g1 _ _ _ (by omega), jzb_in a2, Option.bind_some, ← G2, g2 41 H 37 (by omega), r1, jlt_in (by omega) (by omega), Option.bind_some, g2 _ _ _ (by omega), g1 _ _ _ (by omega), jzb_in b2, Option.bind_some, ← G3, Wz_1]
  have cF : cFa A s u3 0 0 := ((cF1 (A := A) E1 (by omega)).wr E2 (by omega)).wr E3 (by omega)
  have tf : tF H t w3 := ((tF.rfl.wr G1 (by omega)).wr G2 (by omega)).wr G3 (by omega)
  have hk : aKep (jf u3) (jf w3) A H := by
    refine ⟨by rw [f3 _ _ _ (by omega), f2 _ _ _ (by omega), p1, g3 _ _ _ (by omega), g2 _ _ _ (by omega), r1]; exact ⟨rfl, by omega, by omega⟩, fun i i0 i1 => ?_, ?_, ?_⟩
    · rw [g3 _ _ _ (by omega), g2 _ _ _ (by omega), r1] at i1
      rw [f3 _ _ _ (by omega), f2 _ _ _ (by omega), f1 _ _ _ (by omega), f3 _ _ _ (by omega), f2 _ _ _ (by omega), f1 _ _ _ (by omega), g3 _ _ _ (by omega), g2 _ _ _ (by omega), g1 _ _ _ (by omega), g3 _ _ _ (by omega), g2 _ _ _ (by omega), g1 _ _ _ (by omega)]
      exact k2 i i0 (by omega)
    · rw [f3 _ _ _ (by omega), p2, g3 _ _ _ (by omega), r2]; exact ⟨rfl, a2⟩
    · rw [p3, r3]; exact ⟨rfl, b2⟩
  exact .inr ⟨u3, w3, 0, rfl, rfl, h.kep (fun c a k z1 z2 => by rw [f3 _ _ _ (by omega), f2 _ _ _ (by omega), f1 _ _ _ (by omega)]) cF (fun c a k z1 z2 => by rw [g3 _ _ _ (by omega), g2 _ _ _ (by omega), g1 _ _ _ (by omega)]) tf hk, cF, tf, by show jf w3 41 H 26 = jf t 41 H 26; rw [g3 _ _ _ (by omega), g2 _ _ _ (by omega), g1 _ _ _ (by omega)]⟩
end jDirec6
