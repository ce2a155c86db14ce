/-! statements: all of them, labels that never came *-/
set_option maxRecDepth 100000
section jStmts
variable {s t u w s1 t1 s0 u1 tt : jS} {v A H b lo k c a x y d n j m i x1 x2 e : Int} {l : List Int} {NL : List (List Int)} {I : pI} {OL : List pvO} {SL : List pvS} {z : pvS} {xx : Option (jS × Bool × Int)} {yy : Option (jS × Int)} {q : jS × Bool × Int} {r : jS}
theorem st_loop : ∀ (m : Nat) (s t : jS) (k : Int), LI s t A H b lo NL I OL SL k → k + m = SL.length →
    (∃ q r, u_X33_assemble_50 s A x1 = some q ∧ u_X37_statements_11 t H SL.length k = some (r, 0) ∧ aBo s t A H q r) ∨ (∃ u w, u_X33_assemble_50 s A x1 = u_X33_assemble_246 u A x1 ∧ u_X37_statements_11 t H SL.length k = u_X37_statements_32 w H ∧ LI u w A H b lo NL I OL SL SL.length ∧ cFo A s u 0 0 ∧ tF H t w)
  | 0, s, t, k, h, hk => by
    have ek : k = SL.length := by omega
    refine .inr ⟨s, t, ?_, ?_, by rw [← ek]; exact h, (cFa.rfl (A := A)).o, tF.rfl⟩
    · rw [eu_X33_assemble_50]; unfold du_X33_assemble_50
      refine jlpW_r (r := u_X33_assemble_246 s A x1) ?_
      show b_X33_assemble_50 s A x1 = _
      unfold b_X33_assemble_50
      rw [c_count h.1.1, Option.bind_some, h.2.2.2.2.1.2.2, if_neg (by omega)]
    · rw [eu_X37_statements_11]; unfold du_X37_statements_11
      refine jlpW_r (r := u_X37_statements_32 t H) ?_
      show b_X37_statements_11 t H SL.length k = _
      unfold b_X37_statements_11
      rw [if_neg (by omega)]
  | m + 1, s, t, k, h, hk => by
    have s400 := h.s400
    have k0 := h.2.2.2.2.1.1
    rcases st_one (x1 := x1) h (by omega) with ⟨q, r, e1, e2, e3⟩ | ⟨u, w, e1, e2, e3, e4, e5⟩
    · refine .inl ⟨q, r, ?_, ?_, e3⟩
      · rw [eu_X33_assemble_50]; unfold du_X33_assemble_50
        exact jlpW_r (r := some q) e1
      · rw [eu_X37_statements_11]; unfold du_X37_statements_11
        refine jlpW_r (r := some (r, 0)) ?_
        show b_X37_statements_11 t H SL.length k = _
        unfold b_X37_statements_11
        rw [if_pos (by omega), e2, Option.bind_some, if_pos rfl, Wz_0]
    · have c1 : u_X33_assemble_50 s A x1 = u_X33_assemble_50 u A x1 := by
        rw [eu_X33_assemble_50]; unfold du_X33_assemble_50
        exact jlpW_l e1
      have c2 : u_X37_statements_11 t H SL.length k = u_X37_statements_11 w H SL.length (k + 1) := by
        rw [eu_X37_statements_11]; unfold du_X37_statements_11
        refine jlpW_l ?_
        show b_X37_statements_11 t H SL.length k = _
        unfold b_X37_statements_11
        rw [if_pos (by omega), e2, Option.bind_some]
        dsimp only
        rw [if_neg n10, W32_in (by omega) (by omega)]
      rw [c1, c2]
      rcases st_loop m u w (k + 1) e3 (by omega) with ⟨q, r, d1, d2, d3⟩ | ⟨u', w', d1, d2, d3, d4, d5⟩
      · exact .inl ⟨q, r, d1, d2, d3.after e4 e5⟩
      · exact .inr ⟨u', w', d1, d2, d3, (e4.trans d4 : cFo A s u' (0 + 0) (0 + 0)), e5.trans d5⟩
/-- the earliest label that never came, both sides -/
theorem lost_loop (h : LI s t A H b lo NL I OL SL k) : ∀ (m : Nat) (e x2 d : Int), 0 ≤ e → e + m = 10 → (x2 = -1 ∧ d = -1) ∨ (0 ≤ d ∧ d < 10 ∧ ¬ jf t 1000 (H + 150) d = -1 ∧ x2 = jf t 1000 (H + 151) d) → ∃ x2' d', u_X33_assemble_250 s A x1 x2 e = u_X33_assemble_294 s A x1 x2' ∧ u_X37_statements_36 t H d e = u_X37_statements_80 t H d' ∧ ((x2' = -1 ∧ d' = -1) ∨ (0 ≤ d' ∧ d' < 10 ∧ ¬ jf t 1000 (H + 150) d' = -1 ∧ x2' = jf t 1000 (H + 151) d'))
  | 0, e, x2, d, e0, he, hd => by
    refine ⟨x2, d, ?_, ?_, hd⟩
    · rw [eu_X33_assemble_250]; unfold du_X33_assemble_250
      refine jlpW_r (r := u_X33_assemble_294 s A x1 x2) ?_
      show b_X33_assemble_250 s A x1 x2 e = _
      unfold b_X33_assemble_250
      rw [if_neg (by omega)]
    · rw [eu_X37_statements_36]; unfold du_X37_statements_36
      refine jlpW_r (r := u_X37_statements_80 t H d) ?_
      show b_X37_statements_36 t H d e = _
      unfold b_X37_statements_36
      rw [if_neg (by omega)]
  | m + 1, e, x2, d, e0, he, hd => by
    have aT := h.2.2.2.1.2.1.2
    obtain ⟨y1, y2, y3⟩ := aT e e0 (by omega)
    have key : ∃ x2' d', b_X33_assemble_250 s A x1 x2 e = some (.inl (s, [A, x1, x2', e + 1])) ∧ b_X37_statements_36 t H d e = some (.inl (t, [H, d', e + 1])) ∧ ((x2' = -1 ∧ d' = -1) ∨ (0 ≤ d' ∧ d' < 10 ∧ ¬ jf t 1000 (H + 150) d' = -1 ∧ x2' = jf t 1000 (H + 151) d')) := by
      unfold b_X33_assemble_250 b_X37_statements_36
      rw [if_pos (show e < 10 by omega), if_pos (show e < 10 by omega)]
      simp only [jlt_in e0 (show e < 10 by omega), Option.bind_some]
      rw [y2.1]
      have s288 : ∀ x2', u_X33_assemble_288 s A x1 x2' e = some (.inl (s, [A, x1, x2', e + 1])) := fun x2' => by
        rw [eu_X33_assemble_288]; unfold du_X33_assemble_288
        rw [W32_in (by omega) (by omega)]
      have s74 : ∀ d', u_X37_statements_74 t H d' e = some (.inl (t, [H, d', e + 1])) := fun d' => by
        rw [eu_X37_statements_74]; unfold du_X37_statements_74
        rw [W32_in (by omega) (by omega)]
      by_cases c : jf t 1000 (H + 150) e = -1
      · rw [if_pos c, if_pos c, s288, s74]
        exact ⟨_, _, rfl, rfl, hd⟩
      obtain ⟨z1, z2⟩ := y3 c
      have s281 : u_X33_assemble_281 s A x1 e = some (.inl (s, [A, x1, jf t 1000 (H + 151) e, e + 1])) := by
        rw [eu_X33_assemble_281]; unfold du_X33_assemble_281
        rw [jlt_in e0 (by omega), Option.bind_some, s288, z1]
      have s72 : u_X37_statements_72 t H e = some (.inl (t, [H, e, e + 1])) := by
        rw [eu_X37_statements_72]; unfold du_X37_statements_72
        exact s74 e
      have good : (jf t 1000 (H + 151) e = -1 ∧ e = -1) ∨ (0 ≤ e ∧ e < 10 ∧ ¬ jf t 1000 (H + 150) e = -1 ∧ jf t 1000 (H + 151) e = jf t 1000 (H + 151) e) := .inr ⟨e0, by omega, c, rfl⟩
      rw [if_neg c, if_neg c]
      rcases hd with ⟨d1, d2⟩ | ⟨d1, d2, d3, d4⟩
      · rw [if_pos d1, if_pos d2, s281, s72]
        exact ⟨_, _, rfl, rfl, good⟩
      · have := ((aT d d1 d2).2.2 d3).2
        rw [if_neg (show ¬ x2 = -1 by omega), if_neg (show ¬ d = -1 by omega)]
        simp only [jlt_in d1 d2, Option.bind_some]
        rw [z1, ← d4]
        by_cases cl : jf t 1000 (H + 151) e < x2
        · rw [if_pos cl, if_pos cl, s281, s72]
          exact ⟨_, _, rfl, rfl, good⟩
        · rw [if_neg cl, if_neg cl, s288, s74]
          exact ⟨_, _, rfl, rfl, .inr ⟨d1, d2, d3, d4⟩⟩
    obtain ⟨x2', d', k1, k2, k3⟩ := key
    have c1 : u_X33_assemble_250 s A x1 x2 e = u_X33_assemble_250 s A x1 x2' (e + 1) := by
      rw [eu_X33_assemble_250]; unfold du_X33_assemble_250
      exact jlpW_l k1
    have c2 : u_X37_statements_36 t H d e = u_X37_statements_36 t H d' (e + 1) := by
      rw [eu_X37_statements_36]; unfold du_X37_statements_36
      exact jlpW_l k2
    rw [c1, c2]
    exact lost_loop h m (e + 1) x2' d' (by omega) (by omega) k3
theorem LI.bd (h : LI s t A H b lo NL I OL SL k) : (0 ≤ jn s ∧ jBd s 4 40) ∧ (0 ≤ A ∧ A + 127 ≤ jn s) ∧ jf t 41 H 42 = 0 := by
  have := h.1.2.2.2.1
  exact ⟨⟨by omega, h.2.2.1⟩, ⟨by omega, by omega⟩, h.2.2.2.1.2.2.2.2.2.2.2⟩
/-- all statements, and the labels that never came *-/
theorem stmts2 (h : LI s t A H b lo NL I OL SL 0) : (∃ q r, u_X33_assemble_50 s A x1 = some q ∧ m_X37_statements t H = some (r, 0) ∧ aBo s t A H q r) ∨ (∃ u w, u_X33_assemble_50 s A x1 = u_X33_assemble_294 u A x1 (-1) ∧ m_X37_statements t H = some (w, 1) ∧ LI u w A H b lo NL I OL SL SL.length ∧ cFo A s u 0 0 ∧ tF H t w) := by
  have e0 : m_X37_statements t H = u_X37_statements_11 t H SL.length 0 := by
    rw [em_X37_statements]; unfold dm_X37_statements
    rw [y_count0 h.2.1.1, Option.bind_some]
  rw [e0]
  rcases st_loop (x1 := x1) SL.length s t 0 h (by omega) with h' | ⟨u, w, e1, e2, e3, e4, e5⟩
  · exact .inl h'
  rw [e1, e2, eu_X33_assemble_246, eu_X37_statements_32]; unfold du_X33_assemble_246 du_X37_statements_32
  obtain ⟨x2, d, d1, d2, d3⟩ := lost_loop (x1 := x1) e3 10 0 (-1) (-1) (by decide) (by decide) (.inl ⟨rfl, rfl⟩)
  rw [d1, d2]
  rcases d3 with ⟨c1, c2⟩ | ⟨c1, c2, c3, c4⟩
  · refine .inr ⟨u, w, by rw [c1], ?_, e3, e4, e5⟩
    rw [eu_X37_statements_80]; unfold du_X37_statements_80
    rw [if_pos c2, Wz_1]
  · left
    have pl := ((e3.2.2.2.1.2.1.2 d c1 c2).2.2 c3).2
    obtain ⟨h1, h2, h3⟩ := e3.bd
    obtain ⟨q, r, k1, k2, k3⟩ := wrong2 (o := 19) (p := x2) h1 h2 h3 (by decide)
    refine ⟨q, r, ?_, ?_, k3.out.after e4 e5⟩
    · rw [eu_X33_assemble_294]; unfold du_X33_assemble_294
      rw [if_neg (by omega)]; exact k1
    · rw [eu_X37_statements_80]; unfold du_X37_statements_80
      rw [if_neg (by omega), jlt_in c1 c2, Option.bind_some, ← c4, k2, Option.bind_some, if_pos rfl, Wz_0]
end jStmts
