/-! statements: directives and instructions *-/
set_option maxRecDepth 100000
section jWord5
variable {s t u w s1 t1 s0 u1 : jS} {v A H b lo k c a x y d n j m i kd dr ot : Int} {l : List Int} {NL : List (List Int)} {I : pI} {OL : List pvO} {SL : List pvS} {z : pvS} {zo : pvO} {Q Q' : jS → jS → Int → Prop} {xx : Option (jS × Bool × Int)} {yy : Option (jS × Int)} {q : jS × Bool × Int} {r : jS}
/-- the twin behind the word's number -/
noncomputable def yWd (t : jS) (H w : Int) : Option (jS × Int) := if w = (-1) then (m_X37_fail t H 9).bind fun q12 => some (q12.1, Wz q12.2) else (m_X37_isInstruction t H w).bind fun v13 => if v13 = 0 then (m_X37_directive t H w).bind fun q14 => some (q14.1, Wz q14.2) else if (jf t 41 H 34) = 0 then (jlt t 1000 (H + 153) 4 0).bind fun v15 => (jdv 2 (I_rem v15 2)).bind fun v16 => if v16 = 0 then if w < 48 then u_X37_statement_327 t H w else if w < 75 then if (jf t 41 H 35) = 0 then (m_X37_fail t H 11).bind fun q17 => some (q17.1, Wz q17.2) else u_X37_statement_327 t H w else u_X37_statement_327 t H w else u_X37_statement_294 t H else u_X37_statement_294 t H
theorem stO.toM (h : stO s t A H b lo NL I OL SL k z xx yy Q) (hq : ∀ u w v, Q u w v → jf w 41 H 26 ≤ jf t 41 H 26 + 1) : stMt s t A H b lo NL I OL SL k z xx yy := h.out.toM hq
theorem insD (h : AG s t A H b lo NL I OL SL k z) (m0 : 0 ≤ m) (m1 : m < NL.length) (hn : nmKn (tNa NL m) kd dr ot) (hd : (tNa NL m).getD 0 0 = 46) : stMt s t A H b lo NL I OL SL k z (m_X33_directive s A (jf s 1026 (b + 5) m)) (yWd t H (wV kd dr ot)) := by
  rw [hn.dot hd]
  unfold yWd
  have lo16 := isIx_lo hn.2.1
  by_cases c : dr = -1
  · rw [if_pos c, if_pos rfl]
    obtain ⟨u, e1, e2, e3, e4, e5⟩ := c_dirOf h m0 m1 hn.2.1
    rw [e1, c, eu_X33_directive_395]
    have : stO u t A H b lo NL I OL SL k z ((m_X33_need u A 0 9).bind fun q13 => jth q13.2.1 (some (q13.1, true, q13.2.2)) (some (q13.1, false, 0))) ((m_X37_fail t H 9).bind fun q12 => some (q12.1, Wz q12.2)) (dQ t H) := .bad0 e3 (by decide) fun _ _ => rfl
    exact stMt.pre (this.toM fun u w v q => by unfold dQ at q; omega) e4 tF.rfl rfl
  · rw [if_neg c, if_neg (by omega)]
    have ei : m_X37_isInstruction t H (100 + dr) = some 0 := by
      rw [em_X37_isInstruction]; unfold dm_X37_isInstruction
      rw [if_neg (by omega), if_pos (by omega), Wz_0]
    rw [ei, Option.bind_some, if_pos rfl]
    exact stMt.finW ((directive2 h m0 m1 hn.2.1 c).toM fun u w v q => by unfold dQ at q; omega)
/-- an instruction's own checks -/
theorem insC (h : AG s t A H b lo NL I OL SL k z) (hp : jf t 1000 (H + 153) (jf t 41 H 34) = jf t 41 H 47) (h26 : jf t 41 H 26 < 1024) (hr : ∀ i, 0 ≤ i → i < 4 → jf t 1000 (H + 169) i = 0) (hz : jf t 41 H 59 = 0) (hn : nmKn l kd dr ot) (hd : dr = -1) :
    stO s t A H b lo NL I OL SL k z (if kd = (-1) then if 0 < ot + 1 then u_X33_instruction_24 s A kd (ot + 1) A else u_X33_instruction_29 s A kd (ot + 1) 0 A else u_X33_instruction_24 s A kd (ot + 1) A) (yWd t H (wV kd dr ot)) (fun _ w _ => jf w 41 H 26 ≤ jf t 41 H 26 + 1) := by
  obtain ⟨aS, aT, aI, aB, aM, aSt, aK, aH, a0⟩ := h.1.2.2.2.1
  have k75 := isIx_lo hn.1
  have o25 := isIx_lo hn.2.2
  have hm := h.2.1.2.2.1
  unfold yWd wV
  rw [hd]
  by_cases c1 : kd = -1 ∧ ot = -1
  · obtain ⟨c1, c2⟩ := c1
    rw [if_neg (show ¬ ¬ kd = -1 from fun e => e c1), if_neg (show ¬ ¬ (-1 : Int) = -1 from fun e => e rfl), if_neg (show ¬ ¬ ot = -1 from fun e => e c2), if_pos rfl, if_pos c1, if_neg (by omega), eu_X33_instruction_29]; unfold du_X33_instruction_29
    exact .bad0 h (by decide) fun _ _ => rfl
  have e24 : (if kd = (-1) then if 0 < ot + 1 then u_X33_instruction_24 s A kd (ot + 1) A else u_X33_instruction_29 s A kd (ot + 1) 0 A else u_X33_instruction_24 s A kd (ot + 1) A) = u_X33_instruction_29 s A kd (ot + 1) 1 A := by
    rw [eu_X33_instruction_24]; unfold du_X33_instruction_24
    by_cases c : kd = -1
    · rw [if_pos c, if_pos (by omega)]
    · rw [if_neg c]
  obtain ⟨W, hW⟩ : ∃ W, W = if ¬ kd = -1 then kd else 200 + ot := ⟨_, rfl⟩
  have ew : (if ¬ kd = -1 then kd else if ¬ (-1 : Int) = -1 then 100 + -1 else if ¬ ot = -1 then 200 + ot else -1) = W := by
    rw [hW]
    by_cases c : kd = -1
    · rw [if_neg (show ¬ ¬ kd = -1 from fun e => e c), if_neg (show ¬ ¬ (-1 : Int) = -1 from fun e => e rfl), if_neg (show ¬ ¬ kd = -1 from fun e => e c), if_pos (by omega)]
    · rw [if_pos c, if_pos c]
  have hWk : (¬ kd = -1 ∧ W = kd) ∨ (kd = -1 ∧ W = 200 + ot ∧ ¬ ot = -1) := by
    by_cases c : kd = -1
    · rw [if_neg (show ¬ ¬ kd = -1 from fun e => e c)] at hW; exact .inr ⟨c, hW, by omega⟩
    · rw [if_pos c] at hW; exact .inl ⟨c, hW⟩
  have ei : m_X37_isInstruction t H W = some 1 := by
    rw [em_X37_isInstruction]; unfold dm_X37_isInstruction
    rw [Wz_1]
    by_cases c : W < 100
    · rw [if_pos c]
    · rw [if_neg c, if_neg (by omega)]
  rw [e24, ew, if_neg (by omega), ei, Option.bind_some, if_neg n10, eu_X33_instruction_29]; unfold du_X33_instruction_29
  rw [needOk n10]
  dsimp only
  have sz := aB.2.1 0 (by decide) (by decide)
  have sz2 : jf t 1000 (H + 153) 0 ≤ 2048 := sz.2.1.2
  rw [jth_ff, aB.1.1, jlt_in (by decide) (by decide), Option.bind_some, jlt_in (by decide) (by decide), Option.bind_some, sz.1, jdv_in (by decide), Option.bind_some, I_rem_n sz.2.1.1 (by omega) (by decide) (by decide), Option.bind_some]
  have bad10 : stO s t A H b lo NL I OL SL k z (u_X33_instruction_57 s A kd (ot + 1) A) (u_X37_statement_294 t H) (fun _ w _ => jf w 41 H 26 ≤ jf t 41 H 26 + 1) := by
    rw [eu_X33_instruction_57, eu_X37_statement_294]; unfold du_X33_instruction_57 du_X37_statement_294
    rw [eu_X33_instruction_58]; unfold du_X33_instruction_58
    exact .bad0 h (by decide) fun _ _ => rfl
  by_cases c0 : jf t 41 H 34 = 0
  rotate_left
  · rw [if_neg c0, if_neg c0]; exact bad10
  rw [if_pos c0, if_pos c0]
  by_cases c2 : jf t 1000 (H + 153) 0 % 2 = 0
  rotate_left
  · rw [if_neg c2, if_neg c2]; exact bad10
  rw [if_pos c2, if_pos c2, eu_X33_instruction_58]; unfold du_X33_instruction_58
  rw [needOk n10]
  dsimp only
  rw [jth_ff, aK.2.2.1.1]
  have hI : inI H t := ⟨c0, by rw [c0] at hp; exact hp, h26⟩
  have key : stO s t A H b lo NL I OL SL k z (u_X33_instruction_82 s A kd (ot + 1) 1 A) (u_X37_statement_327 t H W) (fun _ w _ => jf w 41 H 26 ≤ jf t 41 H 26 + 1) := by
    rw [eu_X33_instruction_82, eu_X37_statement_327]; unfold du_X33_instruction_82 du_X37_statement_327
    rw [needOk n10]
    dsimp only
    rw [jth_ff]
    rcases hWk with ⟨k1, k2⟩ | ⟨k1, k2, k3⟩
    · rw [if_neg k1, if_pos (show W < 100 by omega), k2]
      exact finY0 ((inst2 h hI hr hz (by omega) (by omega)).mono fun u w v q => by unfold inQ at q; omega)
    · rw [if_pos k1, if_neg (show ¬ W < 100 by omega), k2]
      have := finW (other2 (o := ot + 1) h hI (by omega) (by omega)) inQ.any
      rw [show ot + 1 + 199 = 200 + ot by omega] at this
      exact this.mono fun u w v q => by unfold inQ at q; omega
  have e77 : u_X33_instruction_77 s A kd (ot + 1) A = u_X33_instruction_82 s A kd (ot + 1) 1 A := by rw [eu_X33_instruction_77]; rfl
  rw [e77]
  rcases hWk with ⟨k1, k2⟩ | ⟨k1, k2, k3⟩
  · rw [k2] at key ⊢
    by_cases c48 : kd < 48
    · rw [if_pos c48, if_pos c48]; exact key
    rw [if_neg c48, if_neg c48, if_pos (show kd < 75 by omega)]
    by_cases cs : jf t 41 H 35 = 0
    · rw [if_pos cs, if_pos cs, eu_X33_instruction_82]; unfold du_X33_instruction_82
      exact .bad0 h (by decide) fun _ _ => rfl
    · rw [if_neg cs, if_neg cs]; exact key
  · rw [if_pos (show kd < 48 by omega), if_neg (show ¬ W < 48 by omega), if_neg (show ¬ W < 75 by omega)]; exact key
theorem insI (h : AG s t A H b lo NL I OL SL k z) (hp : jf t 1000 (H + 153) (jf t 41 H 34) = jf t 41 H 47) (h26 : jf t 41 H 26 < 1024) (hr : ∀ i, 0 ≤ i → i < 4 → jf t 1000 (H + 169) i = 0) (hz : jf t 41 H 59 = 0) (m0 : 0 ≤ m) (m1 : m < NL.length) (hn : nmKn (tNa NL m) kd dr ot) (hd : ¬ (tNa NL m).getD 0 0 = 46) : stMt s t A H b lo NL I OL SL k z (m_X33_instruction s A (jf s 1026 (b + 5) m) m) (yWd t H (wV kd dr ot)) := by
  have lt := (h.1.nm m0 m1).2.2.2.2.2.2.1
  rw [em_X33_instruction]; unfold dm_X33_instruction
  obtain ⟨r, e1, e2⟩ := c_kindOf h.1.1.1 m0 m1 rfl lt h.1.1.2.1.1 h.1.1.2.1.2 h.con
  have er : r = kd := isIx_one e2 hn.1
  subst er
  obtain ⟨u, d1, d2, d3, d4⟩ := c_otherOf h m0 m1 hn.2.2
  rw [e1, Option.bind_some, d1, Option.bind_some]
  exact stMt.pre ((insC d3 hp h26 hr hz hn (hn.nodot hd).1).toM fun u w v q => q) d4 tF.rfl rfl
/-- a word and its operands -/
theorem ins2 (h : AG s t A H b lo NL I OL SL k z) (hp : jf t 1000 (H + 153) (jf t 41 H 34) = jf t 41 H 47) (h26 : jf t 41 H 26 < 1024) (hr : ∀ i, 0 ≤ i → i < 4 → jf t 1000 (H + 169) i = 0) (hz : jf t 41 H 59 = 0) (m0 : 0 ≤ m) (m1 : m < NL.length) :
    ∃ W, (m_X37_wordOf t H m).bind (fun q11 => yWd q11.1 H q11.2) = yWd (jp t 42 (H + 4) 0 0) H W ∧ stMt s t A H b lo NL I OL SL k z (if (tNa NL m).getD 0 0 = 46 then m_X33_directive s A (jf s 1026 (b + 5) m) else m_X33_instruction s A (jf s 1026 (b + 5) m) m) (yWd (jp t 42 (H + 4) 0 0) H W) := by
  have lt := (h.1.nm m0 m1).2.2.2.2.2.2.1
  obtain ⟨kd, dr, ot, e1, e2⟩ := y_wordOf h.1.2.1.1 m0 m1 lt
  refine ⟨wV kd dr ot, by rw [e1, Option.bind_some], ?_⟩
  obtain ⟨w1, G1⟩ : ∃ w1, w1 = jp t 42 (H + 4) 0 0 := ⟨_, rfl⟩
  obtain ⟨g1, r1, -⟩ := jpF G1
  rw [← G1]
  have tf1 : tF H t w1 := tF.rfl.wr G1 (by omega)
  have h' : AG s w1 A H b lo NL I OL SL k z := h.scr cFa.rfl opU.rfl tf1 (fun c a i z1 z2 z3 => g1 _ _ _ (by omega))
  refine stMt.pre ?_ (cFa.rfl (A := A)).o tf1 (g1 _ _ _ (by omega))
  by_cases c : (tNa NL m).getD 0 0 = 46
  · rw [if_pos c]; exact insD h' m0 m1 e2 c
  · rw [if_neg c]
    exact insI h' (by rw [g1 _ _ _ (by omega), g1 _ _ _ (by omega), g1 _ _ _ (by omega)]; exact hp) (by rw [g1 _ _ _ (by omega)]; exact h26) (fun i i0 i1 => by rw [g1 _ _ _ (by omega)]; exact hr i i0 i1) (by rw [g1 _ _ _ (by omega)]; exact hz) m0 m1 e2 c
end jWord5
