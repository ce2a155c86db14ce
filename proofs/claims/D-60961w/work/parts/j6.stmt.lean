/-! statements: one statement, both sides *-/
set_option maxRecDepth 100000
section jStmt
variable {s t u w s1 t1 s0 u1 tt : jS} {v A H b lo k c a x y d n j m i kd dr ot x1 : Int} {l : List Int} {NL : List (List Int)} {I : pI} {OL : List pvO} {SL : List pvS} {z : pvS} {zo : pvO} {Q Q' : jS → jS → Int → Prop} {xx : Option (jS × Bool × Int)} {yy : Option (jS × Int)} {q : jS × Bool × Int} {r : jS}
/-- the component goes on behind a statement -/
noncomputable def ciN (A x1 : Int) (q : jS × Bool × Int) : Option ((jS × List Int) ⊕ (jS × Bool × Int)) := jth q.2.1 (jinr (some (q.1, true, q.2.2))) (u_X33_assemble_233 q.1 A x1)
theorem nestJ {X : Option (jS × Bool × Int)} {Y : jS × Bool × Int → Option (jS × Bool × Int)} : (X.bind fun q7 => jth q7.2.1 (jinr (some (q7.1, true, q7.2.2))) ((Y q7).bind fun q8 => jth q8.2.1 (jinr (some (q8.1, true, q8.2.2))) (u_X33_assemble_233 q8.1 A x1))) = (X.bind fun q7 => jth q7.2.1 (some (q7.1, true, q7.2.2)) ((Y q7).bind fun q8 => jth q8.2.1 (some (q8.1, true, q8.2.2)) (some (q8.1, false, 0)))).bind (ciN A x1) := by
  rw [Option.bind_assoc]
  congr 1
  funext q
  obtain ⟨q1, q2, q3⟩ := q
  cases q2 with
  | true => rfl
  | false =>
    show (Y (q1, false, q3)).bind _ = ((Y (q1, false, q3)).bind _).bind _
    rw [Option.bind_assoc]
    congr 1
    funext p
    obtain ⟨p1, p2, p3⟩ := p
    cases p2 <;> rfl
/-- what a statement leaves in the loops -/
def stZ (s t : jS) (A H b lo : Int) (NL : List (List Int)) (I : pI) (OL : List pvO) (SL : List pvS) (k x1 : Int) (xx : Option ((jS × List Int) ⊕ (jS × Bool × Int))) (yy : Option (jS × Int)) : Prop :=
  (∃ q r, xx = jinr (some q) ∧ yy = some (r, 0) ∧ aBo s t A H q r) ∨ (∃ u w, xx = some (.inl (u, [A, x1])) ∧ yy = some (w, 1) ∧ LI u w A H b lo NL I OL SL (k + 1) ∧ cFo A s u 0 0 ∧ tF H t w)
theorem st_end (h : stMt s0 tt A H b lo NL I OL SL k z xx yy) (c : cFo A s s0 0 0) (tf : tF H t tt) (h26 : jf tt 41 H 26 ≤ k) (k0 : 0 ≤ k) (k1 : k ≤ 400) : stZ s t A H b lo NL I OL SL k x1 (xx.bind (ciN A x1)) yy := by
  rcases h with ⟨q, r, e1, e2, e3⟩ | ⟨u, w, v, e1, e2, e3, e4, e5, e6⟩
  · refine .inl ⟨q, r, ?_, e2, e3.after c tf⟩
    rw [e1, Option.bind_some, e3.th]; rfl
  · have e33 : jf u 37 A 33 = k := e3.2.2.2.1.2.2.2.2.2.2.2.1.1.1
    obtain ⟨u1, E1⟩ : ∃ u1, u1 = jp u 37 A 33 (k + 1) := ⟨_, rfl⟩
    obtain ⟨g1, g2⟩ := LI.of e3 E1 (by omega)
    refine .inr ⟨u1, w, ?_, e2, g1, ((c.trans e4 : cFo A s u (0 + 0) (0 + 0)).trans g2.o : cFo A s u1 (0 + 0) (0 + 0)), tf.trans e5⟩
    rw [e1, Option.bind_some]
    unfold ciN
    dsimp only
    rw [jth_ff, eu_X33_assemble_233]; unfold du_X33_assemble_233
    simp only [jls]
    rw [e33, W32_in (by omega) (by omega), ← E1]
theorem tS_gd (h : bGd NL I OL SL) (k0 : 0 ≤ k) (k1 : k < SL.length) : stGd NL.length OL.length (tS SL k) := by
  obtain ⟨i, rfl, hm⟩ := nat_of k0
  refine h.2.2.2 _ ?_
  unfold tS
  rw [hm, List.getD_eq_getElem?_getD, List.getElem?_eq_getElem (by omega)]
  exact List.getElem_mem _
theorem st_one (h : LI s t A H b lo NL I OL SL k) (k1 : k < SL.length) : stZ s t A H b lo NL I OL SL k x1 (b_X33_assemble_50 s A x1) (m_X37_statement t H k) := by
  have s400 := h.s400
  have n150 := h.n150
  obtain ⟨h1, h2, h3, ⟨aS, aT, aI, aB, aM, aSt, aK, a0⟩, ⟨k0, k2, k3⟩, hst⟩ := id h
  have zg : stGd NL.length OL.length (tS SL k) := tS_gd h1.2.2.2.2.2 k0 k1
  generalize hz : tS SL k = z at *
  have b34 := aB.1.2
  have sz := aB.2.1 (jf t 41 H 34) (by omega) (by omega)
  have szb : jf t 1000 (H + 153) (jf t 41 H 34) ≤ 4096 := by
    have := sz.2.1.2
    unfold szM at this
    split at this <;> omega
  -- the twin's state
  obtain ⟨w1, G1⟩ : ∃ w1, w1 = jp t 41 H 44 (stQ1 z 4) := ⟨_, rfl⟩
  obtain ⟨g1, r1, -⟩ := jpF G1
  obtain ⟨w2, G2⟩ : ∃ w2, w2 = jp w1 41 H 45 (stQ1 z 2) := ⟨_, rfl⟩
  obtain ⟨g2, r2, -⟩ := jpF G2
  obtain ⟨w3, G3⟩ : ∃ w3, w3 = jp w2 41 H 46 (stQ1 z 3) := ⟨_, rfl⟩
  obtain ⟨g3, r3, -⟩ := jpF G3
  obtain ⟨w4, G4⟩ : ∃ w4, w4 = jp w3 41 H 47 (jf t 1000 (H + 153) (jf t 41 H 34)) := ⟨_, rfl⟩
  obtain ⟨g4, r4, -⟩ := jpF G4
  obtain ⟨w5, G5⟩ : ∃ w5, w5 = jp w4 41 H 48 (-1) := ⟨_, rfl⟩
  obtain ⟨g5, r5, -⟩ := jpF G5
  obtain ⟨w6, G6⟩ : ∃ w6, w6 = jp w5 41 H 59 0 := ⟨_, rfl⟩
  obtain ⟨g6, r6, -⟩ := jpF G6
  obtain ⟨x1', X1⟩ : ∃ x, x = jp w6 1000 (H + 169) 0 0 := ⟨_, rfl⟩
  obtain ⟨y1, z1, -⟩ := jpF X1
  obtain ⟨x2, X2⟩ : ∃ x, x = jp x1' 1000 (H + 169) (0 + 1) 0 := ⟨_, rfl⟩
  obtain ⟨y2, z2, -⟩ := jpF X2
  obtain ⟨x3, X3⟩ : ∃ x, x = jp x2 1000 (H + 169) (0 + 1 + 1) 0 := ⟨_, rfl⟩
  obtain ⟨y3, z3, -⟩ := jpF X3
  obtain ⟨tt, X4⟩ : ∃ x, x = jp x3 1000 (H + 169) (0 + 1 + 1 + 1) 0 := ⟨_, rfl⟩
  obtain ⟨y4, z4, -⟩ := jpF X4
  have tf2 : tF H t w2 := (tF.rfl.wr G1 (by omega)).wr G2 (by omega)
  have tf6 : tF H t w6 := (((tf2.wr G3 (by omega)).wr G4 (by omega)).wr G5 (by omega)).wr G6 (by omega)
  have tfx : tF H t tt := (((tf6.wr X1 (by omega)).wr X2 (by omega)).wr X3 (by omega)).wr X4 (by omega)
  have f6 : ∀ c a j, ¬ (c = 41 ∧ a = H ∧ (44 ≤ j ∧ j ≤ 48 ∨ 59 ≤ j ∧ j ≤ 61)) → jf w6 c a j = jf t c a j := fun c a j q => by
    rw [g6 _ _ _ (by omega), g5 _ _ _ (by omega), g4 _ _ _ (by omega), g3 _ _ _ (by omega), g2 _ _ _ (by omega), g1 _ _ _ (by omega)]
  have fx : ∀ c a j, ¬ (c = 1000 ∧ a = H + 169) → jf tt c a j = jf w6 c a j := fun c a j q => by
    rw [y4 _ _ _ (by omega), y3 _ _ _ (by omega), y2 _ _ _ (by omega), y1 _ _ _ (by omega)]
  have fv : ∀ c a j, ¬ (c = 41 ∧ a = H ∧ (44 ≤ j ∧ j ≤ 48 ∨ 59 ≤ j ∧ j ≤ 61)) → ¬ (c = 1000 ∧ a = H + 169) → jf tt c a j = jf t c a j := fun c a j q q' => by rw [fx _ _ _ q', f6 _ _ _ q]
  have v59 : jf tt 41 H 59 = 0 := by rw [fx _ _ _ (by omega), r6]
  have v48 : jf tt 41 H 48 = -1 := by rw [fx _ _ _ (by omega), g6 _ _ _ (by omega), r5]
  have v47 : jf tt 41 H 47 = jf t 1000 (H + 153) (jf t 41 H 34) := by rw [fx _ _ _ (by omega), g6 _ _ _ (by omega), g5 _ _ _ (by omega), r4]
  have v46 : jf tt 41 H 46 = z.2.2.2.1 := by rw [fx _ _ _ (by omega), g6 _ _ _ (by omega), g5 _ _ _ (by omega), g4 _ _ _ (by omega), r3]; rfl
  have v45 : jf tt 41 H 45 = z.2.2.1 := by rw [fx _ _ _ (by omega), g6 _ _ _ (by omega), g5 _ _ _ (by omega), g4 _ _ _ (by omega), g3 _ _ _ (by omega), r2]; rfl
  have v44 : jf tt 41 H 44 = z.2.2.2.2.1 := by rw [fx _ _ _ (by omega), g6 _ _ _ (by omega), g5 _ _ _ (by omega), g4 _ _ _ (by omega), g3 _ _ _ (by omega), g2 _ _ _ (by omega), r1]; rfl
  have rows : ∀ i, 0 ≤ i → i < 4 → jf tt 1000 (H + 169) i = 0 := fun i i0 i1 => by
    have : i = 0 ∨ i = 1 ∨ i = 2 ∨ i = 3 := by omega
    rcases this with rfl | rfl | rfl | rfl
    · rw [y4 _ _ _ (by omega), y3 _ _ _ (by omega), y2 _ _ _ (by omega), z1]
    · rw [y4 _ _ _ (by omega), y3 _ _ _ (by omega)]; exact z2
    · rw [y4 _ _ _ (by omega)]; exact z3
    · exact z4
  have v34 : jf tt 41 H 34 = jf t 41 H 34 := fv _ _ _ (by omega) (by omega)
  have v153 : ∀ i, jf tt 1000 (H + 153) i = jf t 1000 (H + 153) i := fun i => fv _ _ _ (by omega) (by omega)
  have v26 : jf tt 41 H 26 = jf t 41 H 26 := fv _ _ _ (by omega) (by omega)
  have v12 : jf tt 41 H 12 = jf t 41 H 12 := fv _ _ _ (by omega) (by omega)
  have ey : m_X37_statement t H k = u_X37_statement_82 tt H k := by
    have q0 := y_statement (w := 4) h2.1 k0 k1 (by decide) (by decide)
    have q2 := y_statement (w := 2) (h2.keep (tF.rfl.wr G1 (by omega))).1 k0 k1 (by decide) (by decide)
    have q3 := y_statement (w := 3) (h2.keep tf2).1 k0 k1 (by decide) (by decide)
    rw [hz] at q0 q2 q3
    rw [em_X37_statement]; unfold dm_X37_statement
    rw [q0, Option.bind_some]
    simp only [jls]
    rw [← G1, q2, Option.bind_some]
    dsimp only
    rw [← G2, q3, Option.bind_some]
    dsimp only
    rw [← G3, g3 41 H 34 (by omega), g2 41 H 34 (by omega), g1 41 H 34 (by omega), jlt_in (by omega) (by omega), Option.bind_some, g3 _ _ _ (by omega), g2 _ _ _ (by omega), g1 _ _ _ (by omega), ← G4, ← G5, ← G6]
    have zs : ∀ (u : jS) (i : Int), 0 ≤ i → i < 4 → u_X37_statement_64 u H k i = u_X37_statement_64 (jp u 1000 (H + 169) i 0) H k (i + 1) := fun u i i0 i1 => by
      rw [eu_X37_statement_64]; unfold du_X37_statement_64
      refine jlpW_l ?_
      show b_X37_statement_64 u H k i = _
      unfold b_X37_statement_64
      rw [if_pos i1, jst_in i0 i1, Option.bind_some, W32_in (by omega) (by omega)]
    have ze : ∀ (u : jS), u_X37_statement_64 u H k 4 = u_X37_statement_82 u H k := fun u => by
      rw [eu_X37_statement_64]; unfold du_X37_statement_64
      refine jlpW_r (r := u_X37_statement_82 u H k) ?_
      show b_X37_statement_64 u H k 4 = _
      unfold b_X37_statement_64
      rw [if_neg (by decide)]
    rw [zs _ 0 (by decide) (by decide), ← X1, zs _ (0 + 1) (by decide) (by decide), ← X2, zs _ (0 + 1 + 1) (by decide) (by decide), ← X3, zs _ (0 + 1 + 1 + 1) (by decide) (by decide), ← X4]
    have e4' : (0 + 1 + 1 + 1 + 1 : Int) = 4 := rfl
    rw [e4', ze]
  -- the component's state
  obtain ⟨u1, E1⟩ : ∃ u1, u1 = jp s 37 A 31 (-1) := ⟨_, rfl⟩
  obtain ⟨f1, p1, -⟩ := jpF E1
  obtain ⟨u2, E2⟩ : ∃ u2, u2 = jp u1 37 A 32 (jf t 1000 (H + 153) (jf t 41 H 34)) := ⟨_, rfl⟩
  obtain ⟨f2, p2, -⟩ := jpF E2
  have cF2 : cFa A s u2 0 0 := (cFa.rfl.wr E1 (by omega)).wr E2 (by omega)
  have fu2 : ∀ c a j, ¬ (c = 37 ∧ a = A ∧ (j = 31 ∨ j = 32)) → jf u2 c a j = jf s c a j := fun c a j q => by rw [f2 _ _ _ (by omega), f1 _ _ _ (by omega)]
  have her : ∀ u, (∀ j, j = 31 ∨ j = 32 ∨ j = 33 → jf u 37 A j = jf u2 37 A j) → aHer (jf u) (jf tt) A H k z := fun u q => by
    have q31 : jf u 37 A 31 = -1 := by rw [q 31 (by omega), f2 _ _ _ (by omega), p1]
    have q32 : jf u 37 A 32 = jf t 1000 (H + 153) (jf t 41 H 34) := by rw [q 32 (by omega), p2]
    have q33 : jf u 37 A 33 = k := by rw [q 33 (by omega), fu2 _ _ _ (by omega), k3]
    exact ⟨⟨q33, v44⟩, ⟨by rw [q31, v48], by rw [v48]; omega, by rw [v48, v12]; have := aS.2.1; omega⟩, by rw [q32, v47], by rw [v47]; omega, by rw [v47]; omega⟩
  have A2 : AR u2 tt A H b lo NL I OL SL k z := by
    have := h.ar k1 cF2 tfx (fun c a j q => fu2 _ _ _ (by omega)) fv (by rw [hz]; exact her u2 fun _ _ => rfl)
    rw [hz] at this; exact this
  have hp : jf tt 1000 (H + 153) (jf tt 41 H 34) = jf tt 41 H 47 := by rw [v34, v153, v47]
  have b0 := aB.1
  have cq := fun (w : Int) (w0 : 0 ≤ w) (w1 : w ≤ 5) => c_statement (w := w) h1.1 k0 k1 w0 w1
  rw [hz] at cq
  rw [ey, eu_X37_statement_82]; unfold du_X37_statement_82
  have y1q := y_statement (w := 1) A2.2.1.1 k0 k1 (by decide) (by decide)
  have y0q := y_statement (w := 0) A2.2.1.1 k0 k1 (by decide) (by decide)
  rw [hz] at y1q y0q
  rw [y1q, Option.bind_some]
  dsimp only
  rw [y0q, Option.bind_some]
  unfold b_X33_assemble_50
  rw [c_count h1.1, Option.bind_some, k3, if_pos k1, cq 0 (by decide) (by decide), Option.bind_some, cq 1 (by decide) (by decide), Option.bind_some]
  simp only [jls]
  rw [← E1, f1 37 A 30 (by omega), b0.1, jlt_in (by omega) (by omega), Option.bind_some, f1 _ _ _ (by omega), sz.1, ← E2]
  have q0 : stQ1 z 0 = z.1 := rfl
  have q1 : stQ1 z 1 = z.2.1 := rfl
  rw [q0, q1]
  by_cases c0 : z.1 = 0
  · have nb := zg.1 (.inl c0)
    rw [if_pos c0, if_pos c0, nestJ (Y := fun q7 => m_X33_define q7.1 A q7.2.2 (jf q7.1 37 A 30) (jf q7.1 37 A 32) 0)]
    exact st_end (lab2 A2 hp nb.1 nb.2 n150) cF2.o tfx (by rw [v26]; exact hst) k0 (by omega)
  rw [if_neg c0, if_neg c0]
  by_cases c1 : z.1 = 1
  · have nb := zg.2.1 c1
    rw [if_pos c1, if_pos c1, nestJ (Y := fun q7 => m_X33_define q7.1 A q7.2.2 (jf q7.1 37 A 30) (jf q7.1 37 A 32) 0)]
    exact st_end (dig2 A2 hp nb.1 (by omega)) cF2.o tfx (by rw [v26]; exact hst) k0 (by omega)
  rw [if_neg c1, if_neg c1]
  have nb := zg.1 (.inr (by have := zg.2.2.1; omega))
  obtain ⟨u3, E3⟩ : ∃ u3, u3 = jp u2 37 A 34 (stQ1 z 2) := ⟨_, rfl⟩
  obtain ⟨f3, p3, -⟩ := jpF E3
  obtain ⟨u4, E4⟩ : ∃ u4, u4 = jp u3 37 A 35 (stQ1 z 3) := ⟨_, rfl⟩
  obtain ⟨f4, p4, -⟩ := jpF E4
  have cF3 : cFa A s u3 0 0 := cF2.wr E3 (by omega)
  have cF4 : cFa A s u4 0 0 := cF3.wr E4 (by omega)
  have c2 := c_statement (w := 2) A2.1.1 k0 k1 (by decide) (by decide)
  have c3 := c_statement (w := 3) (h1.keep cF3).1 k0 k1 (by decide) (by decide)
  rw [hz] at c2 c3
  have A4 : AR u4 tt A H b lo NL I OL SL k z := by
    have := h.ar k1 cF4 tfx (fun c a j q => by rw [f4 _ _ _ (by omega), f3 _ _ _ (by omega)]; exact fu2 _ _ _ (by omega)) fv (by rw [hz]; exact her u4 fun j q => by rw [f4 _ _ _ (by omega), f3 _ _ _ (by omega)])
    rw [hz] at this; exact this
  have g : AG u4 tt A H b lo NL I OL SL k z := ⟨A4, ⟨by rw [f4 _ _ _ (by omega), p3]; rfl, v45, by rw [p4]; rfl, v46⟩, n150⟩
  rw [fu2 37 A 33 (by omega), k3, c2, Option.bind_some, ← E3, f3 37 A 33 (by omega), fu2 37 A 33 (by omega), k3, c3, Option.bind_some, ← E4]
  obtain ⟨n1, n2, n3, n4, n5, n6, n7, n8, n9⟩ := g.1.nm nb.1 nb.2
  rw [n1, n2, Option.bind_some, n3, Option.bind_some, s_charAt n4 (by decide) (by omega), Option.bind_some]
  obtain ⟨W, e1, e2⟩ := ins2 g hp (by rw [v26]; omega) rows v59 nb.1 nb.2
  have ey2 : ∀ q11 : jS × Int, (if q11.2 = (-1) then (m_X37_fail q11.1 H 9).bind fun q12 => some (q12.1, Wz q12.2) else (m_X37_isInstruction q11.1 H q11.2).bind fun v13 => if v13 = 0 then (m_X37_directive q11.1 H q11.2).bind fun q14 => some (q14.1, Wz q14.2) else if (jf q11.1 41 H 34) = 0 then (jlt q11.1 1000 (H + 153) 4 0).bind fun v15 => (jdv 2 (I_rem v15 2)).bind fun v16 => if v16 = 0 then if q11.2 < 48 then u_X37_statement_327 q11.1 H q11.2 else if q11.2 < 75 then if (jf q11.1 41 H 35) = 0 then (m_X37_fail q11.1 H 11).bind fun q17 => some (q17.1, Wz q17.2) else u_X37_statement_327 q11.1 H q11.2 else u_X37_statement_327 q11.1 H q11.2 else u_X37_statement_294 q11.1 H else u_X37_statement_294 q11.1 H) = yWd q11.1 H q11.2 := fun _ => rfl
  simp only [ey2]
  rw [e1]
  have key := st_end (x1 := x1) e2 cF4.o tfx (by rw [v26]; exact hst) k0 (by omega)
  have e46 : (tNa NL z.2.1).getD (0 : Int).toNat 0 = (tNa NL z.2.1).getD 0 0 := rfl
  rw [e46]
  by_cases c46 : (tNa NL z.2.1).getD 0 0 = 46
  · rw [if_pos c46] at key ⊢; exact key
  · rw [if_neg c46] at key ⊢; exact key
end jStmt
