/-! instructions that stand for others, both sides: branches, calls *-/
set_option maxRecDepth 100000
section jOther2
variable {s t u w s1 t1 s0 r : jS} {v A H b lo k c a x y d n j low kd e m p D B C J n0 v0 v1 v2 o w1 : Int} {kn i : Nat} {l : List Int} {NL : List (List Int)} {I : pI} {OL : List pvO} {SL : List pvS} {z : pvS} {zo : pvO} {Q Q' : jS → jS → Int → Prop} {xx : Option (jS × Bool × Int)} {yy : Option (jS × Int)} {P : Prop}
/-- a branch by one register -/
theorem branchd (h : AG s t A H b lo NL I OL SL k z) (hI : inI H t) (o0 : 11 ≤ o) (o1 : o ≤ 16) (hw : w1 = o + 199) : stO s t A H b lo NL I OL SL k z (m_X33_branched s A o) (u_X37_other_364 t H w1) (inQ t H) := by
  have e0 : z.2.2.1 + 0 = z.2.2.1 := by omega
  rw [em_X33_branched, eu_X37_other_364]; unfold dm_X33_branched du_X37_other_364
  rw [if_pos (show 209 < w1 by omega)]
  refine finY0 ?_
  rw [em_X37_branch]; unfold dm_X37_branch
  rw [if_neg (show ¬ 215 < w1 by omega), eu_X37_branch_12]; unfold du_X37_branch_12
  rw [if_pos rfl, eu_X37_branch_42]; unfold du_X37_branch_42
  obtain ⟨kn, K0, K1⟩ : ∃ kn : Nat, (kn : Int) = (if o < 13 then o - 7 else if o = 13 ∨ o = 15 then 7 else 6) ∧ 4 ≤ kn ∧ kn < 10 := by
    refine ⟨(if o < 13 then o - 7 else if o = 13 ∨ o = 15 then 7 else 6).toNat, ?_, ?_⟩
    · split
      · omega
      · split <;> omega
    · split
      · omega
      · split <;> omega
  have e11 : ∀ y, u_X33_branched_11 s A o y = u_X33_branched_44 s A y kn := fun y => by
    rw [eu_X33_branched_11, K0]; unfold du_X33_branched_11
    rw [eu_X33_branched_37]; unfold du_X33_branched_37
    by_cases c : o < 13
    · rw [if_pos c, if_pos c, W32_in (by omega) (by omega)]
    · rw [if_neg c, if_neg c]
      by_cases c13 : o = 13
      · rw [if_pos c13, if_pos (.inl c13)]
      · rw [if_neg c13]
        by_cases c15 : o = 15
        · rw [if_pos c15, if_pos (.inr c15)]
        · rw [if_neg c15, if_neg (by omega)]
  rw [e11, e11]
  have e14 : (if 14 < o then u_X33_branched_44 s A 1 kn else u_X33_branched_44 s A 0 kn) = u_X33_branched_44 s A (if 14 < o then 1 else 0) kn := by
    by_cases c : 14 < o
    · rw [if_pos c, if_pos c]
    · rw [if_neg c, if_neg c]
  rw [e14, eu_X33_branched_44]; unfold du_X33_branched_44
  by_cases hc : arC OL z 2 1 0 0
  rotate_left
  · rw [(takRE h).2 hc, Option.bind_some, y_arN h hc, Option.bind_some, if_pos rfl]
    exact .bad0 h (by decide) fun _ _ => rfl
  have hm := hc.1
  have s0' : (tO OL (z.2.2.1 + 0)).1 = 1 := by rw [e0]; exact (hc.2.1 (by decide)).1
  have b0 := h.rb (j := 0) (by decide) (by omega) s0'
  have st0 := h.1.st0
  obtain ⟨o1', o2', o3', og, o5'⟩ := h.1.op (j := 1) (by decide) (by omega)
  rw [(takRE h).1 hc, Option.bind_some, y_arY h hc, Option.bind_some, needOk n10]
  dsimp only
  rw [jth_ff, if_neg n10, eu_X37_branch_49]; unfold du_X37_branch_49
  rw [if_pos rfl, eu_X37_branch_63]; unfold du_X37_branch_63
  rw [h.2.1.2.1, W32_in (by omega) (by omega), c_rgst h (by decide) (by omega), Option.bind_some]
  obtain ⟨BB, CC, hB, hC, eB⟩ : ∃ BB CC, (0 ≤ BB ∧ BB ≤ 31) ∧ (0 ≤ CC ∧ CC ≤ 31) ∧ (BB = if 14 < o then 0 else (tO OL (z.2.2.1 + 0)).2.1) ∧ (CC = if 14 < o then (tO OL (z.2.2.1 + 0)).2.1 else 0) := by
    refine ⟨_, _, ?_, ?_, rfl, rfl⟩ <;> split <;> omega
  have cu : (if (if 14 < o then (1 : Int) else 0) = 0 then u_X33_branched_78 s A (if 14 < o then 1 else 0) (tO OL (z.2.2.1 + 0)).2.1 0 kn (jc s 48) A else u_X33_branched_78 s A (if 14 < o then 1 else 0) 0 0 kn (jc s 48) A) = (m_X33_jumped s A (jc s 48) kn 0 BB CC).bind fun q1 => jth q1.2.1 (some (q1.1, true, q1.2.2)) (some (q1.1, false, 0)) := by
    rw [eu_X33_branched_78]; unfold du_X33_branched_78
    rw [c_rgst h (by decide) (by omega), Option.bind_some, eu_X33_branched_91]; unfold du_X33_branched_91
    rw [eB.1, eB.2]
    by_cases c : 14 < o
    · simp only [if_pos c]; rw [if_neg n10, if_neg n10]; rfl
    · simp only [if_neg c, if_true]
  rw [cu]
  refine finC ?_ inQ.any
  refine jumpd (o := 16) (G := fun q => some (q.1, Wz q.2)) h hI ((takRE (v2 := 0) h).1 hc) (show kn < 48 by omega) z31 hB hC (by rw [if_neg (by omega)]) (j := 1) (by decide) (by omega) (hc.2.2.1 (by decide)).1 rfl (fun r => tw1 r) tW1 (fun r => tw0 r) fun {u w} g => ?_
  dsimp only
  rw [if_neg n10, y_rg0 g (by omega), Option.bind_some]
  dsimp only
  rw [if_pos rfl, eu_X37_branch_99]; unfold du_X37_branch_99
  have ho : o = 11 ∨ o = 12 ∨ o = 13 ∨ o = 14 ∨ o = 15 ∨ o = 16 := by omega
  clear cu hc e14 e11 b0 s0'
  generalize (tO OL (z.2.2.1 + 0)).2.1 = R at eB ⊢
  rcases ho with rfl | rfl | rfl | rfl | rfl | rfl <;> subst hw <;> simp at K0 eB <;> rw [K0, eB.1, eB.2] <;> rfl
/-- a branch by two registers, turned -/
theorem turnd (h : AG s t A H b lo NL I OL SL k z) (hI : inI H t) (o0 : 17 ≤ o) (o1 : o ≤ 20) (hw : w1 = o + 199) : stO s t A H b lo NL I OL SL k z (m_X33_turned s A o) (u_X37_other_364 t H w1) (inQ t H) := by
  have e0 : z.2.2.1 + 0 = z.2.2.1 := by omega
  rw [em_X33_turned, eu_X37_other_364]; unfold dm_X33_turned du_X37_other_364
  rw [if_pos (show 209 < w1 by omega)]
  refine finY0 ?_
  rw [em_X37_branch]; unfold dm_X37_branch
  rw [if_pos (show 215 < w1 by omega), eu_X37_branch_12]; unfold du_X37_branch_12
  rw [if_neg n10, eu_X37_branch_42]; unfold du_X37_branch_42
  obtain ⟨kn, K0, K1⟩ : ∃ kn : Nat, (kn : Int) = (if o = 17 then 6 else if o = 18 then 7 else if o = 19 then 8 else 9) ∧ 6 ≤ kn ∧ kn < 10 := by
    refine ⟨(if o = 17 then 6 else if o = 18 then 7 else if o = 19 then 8 else 9 : Int).toNat, ?_, ?_⟩ <;> (repeat' split) <;> decide
  have e35 : (if o = 17 then u_X33_turned_35 s A 6 else if o = 18 then u_X33_turned_35 s A 7 else if o = 19 then u_X33_turned_35 s A 8 else u_X33_turned_35 s A 9) = u_X33_turned_35 s A kn := by
    rw [K0]; (repeat' split) <;> rfl
  rw [e35, eu_X33_turned_35]; unfold du_X33_turned_35
  by_cases hc : arC OL z 3 1 1 0
  rotate_left
  · rw [(takRRE h).2 hc, Option.bind_some, y_arN h hc, Option.bind_some, if_pos rfl]
    exact .bad0 h (by decide) fun _ _ => rfl
  have hm := hc.1
  have s0' : (tO OL (z.2.2.1 + 0)).1 = 1 := by rw [e0]; exact (hc.2.1 (by decide)).1
  have s1' : (tO OL (z.2.2.1 + 1)).1 = 1 := (hc.2.2.1 (by decide)).1
  have b0 := h.rb (j := 0) (by decide) (by omega) s0'
  have b1 := h.rb (j := 1) (by decide) (by omega) s1'
  have st0 := h.1.st0
  obtain ⟨o1', o2', o3', og, o5'⟩ := h.1.op (j := 1) (by decide) (by omega)
  rw [(takRRE h).1 hc, Option.bind_some, y_arY h hc, Option.bind_some, needOk n10]
  dsimp only
  rw [jth_ff, if_neg n10, eu_X37_branch_49]; unfold du_X37_branch_49
  rw [if_neg n10, eu_X37_branch_63]; unfold du_X37_branch_63
  rw [h.2.1.2.1, W32_in (by omega) (by omega), c_rgst h (by decide) (by omega), Option.bind_some, c_rgst h (by decide) (by omega), Option.bind_some]
  refine finC ?_ inQ.any
  refine jumpd (o := 16) (G := fun q => some (q.1, Wz q.2)) h hI ((takRRE h).1 hc) (show kn < 48 by omega) z31 b1 b0 (by rw [if_neg (by omega)]) (j := 2) (by decide) (by omega) (hc.2.2.2 (by decide)).1 rfl (fun r => tw1 r) tW1 (fun r => tw0 r) fun {u w} g => ?_
  dsimp only
  rw [if_neg n10, y_rg0 g (by omega), Option.bind_some]
  dsimp only
  rw [if_neg n10, y_rgj g (by decide) (by omega), Option.bind_some, eu_X37_branch_99]; unfold du_X37_branch_99
  have ho : o = 17 ∨ o = 18 ∨ o = 19 ∨ o = 20 := by omega
  clear hc e35 b0 b1 s0' s1'
  generalize (tO OL (z.2.2.1 + 0)).2.1 = R
  generalize (tO OL (z.2.2.1 + 1)).2.1 = R1
  rcases ho with rfl | rfl | rfl | rfl <;> subst hw <;> simp at K0 <;> rw [K0] <;> rfl
/-- two words, the relocation behind the first or behind both -/
theorem calld (h : AG s t A H b lo NL I OL SL k z) (hI : inI H t) (hx : x = 0 ∨ x = 1) : stO s t A H b lo NL I OL SL k z (m_X33_called s A (if x = 0 then 1 else 6) (if x = 0 then 1 else 0)) (m_X37_calls t H x) (inQ t H) := by
  have e0 : z.2.2.1 + 0 = z.2.2.1 := by omega
  rw [em_X33_called, em_X37_calls]; unfold dm_X33_called dm_X37_calls
  by_cases hc : arC OL z 1 0 0 0
  rotate_left
  · rw [(takE h).2 hc, Option.bind_some, y_arN h hc, Option.bind_some, if_pos rfl]
    exact .bad0 h (by decide) fun _ _ => rfl
  have hm := hc.1
  rw [(takE h).1 hc, Option.bind_some, y_arY h hc, Option.bind_some, needOk n10]
  dsimp only
  rw [jth_ff, if_neg n10, h.2.1.2.1]
  have pl := placed2 h (j := 0) (by decide) (by omega) (.inl (by rw [e0]; exact (hc.2.1 (by decide)).1))
  rw [e0] at pl
  refine pl.bind (fun _ _ => rfl) (fun r => tw0 r) fun u w v g c1 c2 ⟨q, q1, q2⟩ => ?_
  dsimp only
  rw [jth_ff, if_neg n10]
  have I' := hI.ks q.ks
  suffices hh : stO u w A H b lo NL I OL SL k z _ _ (inQ w H) from hh.mono (inQ.of q.ks.1)
  obtain ⟨-, -, ⟨E0, E1, -⟩, ⟨v0, v1, -⟩, -⟩ := q
  dsimp only at v0 v1
  have hs12 := g.1.2.2.2.1.1.2.1
  clear h hI pl c1 c2
  obtain ⟨R, hR, eR⟩ : ∃ R : Int, (0 ≤ R ∧ R ≤ 31) ∧ R = if x = 0 then 1 else 6 := ⟨_, by split <;> decide, rfl⟩
  obtain ⟨K, hK, eK⟩ : ∃ K : Int, (0 ≤ K ∧ K ≤ 31) ∧ K = if x = 0 then 1 else 0 := ⟨_, by split <;> decide, rfl⟩
  have e41 : (if x = 0 then u_X37_calls_41 w H x 1 else u_X37_calls_41 w H x 6) = u_X37_calls_41 w H x R := by rw [eR]; split <;> rfl
  rw [e41, ← eR, ← eK, eu_X37_calls_41]; unfold du_X37_calls_41
  obtain ⟨u1, w1, e1, e2, e3, e4, e5, e6, e7, e8⟩ := started3 g I'
  rw [jlt_in (by decide) (by decide), Option.bind_some, e1, e2, Option.bind_some, Option.bind_some]
  dsimp only
  rw [if_neg n10]
  refine finC ?_ inQ.any
  refine stO.pre ?_ e4 e5
  rw [em_X33_twice]; unfold dm_X33_twice
  rw [if_neg (by decide), eu_X33_twice_14]; unfold du_X33_twice_14
  have gd1 : pGood 1 (R, 0, 0, 0) = true := gd48 (by decide) hR z31 z31 (gd0 (by decide))
  have rg1 := rg4 hR z31 z31 rz0
  have gd3 : pGood 3 (K, R, 0, 0) = true := gd48 (by decide) hK hR z31 (gd0 (by decide))
  have rg3 := rg4 hK hR z31 rz0
  obtain ⟨y0, y1, y2, y3, y4, y5, y6⟩ := word4 (kn := 1) e3 (by decide) gd1 rg1
  obtain ⟨pw1, pm1⟩ := pw_mod (kn := 1) (by decide) gd1
  have y0 : m_X2_word u1 (A + (-4147)) 1 R 0 0 0 = some (u1, false, pPut 1 (R, 0, 0, 0)) := y0
  have y2 : m_X37_word w1 H 1 R 0 0 0 = some (y1, pPut 1 (R, 0, 0, 0)) := y2
  rw [y0, y2, Option.bind_some, Option.bind_some]
  dsimp only
  rw [jth_ff]
  refine stO.pre ?_ cFa.rfl y4
  have q34 : jf y1 41 H 34 = 0 := by rw [y6.2.1]; exact e7.1
  refine (putNum2 y3 (by omega) (by decide) (by decide)).bind (fun _ _ => rfl) (fun r => tw0 r) fun u3 w3 d g3 c3 c4 p => ?_
  dsimp only
  rw [jth_ff, if_neg n10]
  have e85 : (if x = 0 then u_X37_calls_85 w3 H R (jf w 1000 (H + 153) 0) 1 3 H H else u_X37_calls_85 w3 H R (jf w 1000 (H + 153) 0) 0 3 H H) = u_X37_calls_85 w3 H R (jf w 1000 (H + 153) 0) K 3 H H := by rw [eK]; split <;> rfl
  rw [e85, eu_X37_calls_85]; unfold du_X37_calls_85
  obtain ⟨x0, x1, x2, x3, x4, x5, x6⟩ := word4 (kn := 3) g3 (by decide) gd3 rg3
  have x2 : m_X37_word w3 H 3 K R 0 0 = some (x1, pPut 3 (K, R, 0, 0)) := x2
  rw [x2, Option.bind_some]
  dsimp only
  refine stO.pre ?_ cFa.rfl x4
  have E := (e6.trans y5).trans p.em
  have E' := E.trans x5
  have r21 : jf u3 1000 (A + 21) 0 = jf w 41 H 53 := by rw [p.1 _ _ _ (by omega) (by omega), e8 _ _ _ (by omega) (by omega)]; exact E1
  have r20 : jf u3 1000 (A + 20) 0 = jf w 41 H 52 := by rw [p.1 _ _ _ (by omega) (by omega), e8 _ _ _ (by omega) (by omega)]; exact E0
  have x53 : jf x1 41 H 53 = jf w 41 H 53 := E'.2.1 _ _ _ (by omega) (by omega) (by omega)
  have x52 : jf x1 41 H 52 = jf w 41 H 52 := E'.2.1 _ _ _ (by omega) (by omega) (by omega)
  have x47 : jf x1 41 H 47 = jf w 41 H 47 := E'.2.1 _ _ _ (by omega) (by omega) (by omega)
  have x34 : jf x1 41 H 34 = 0 := by rw [E'.2.1 _ _ _ (by omega) (by omega) (by omega)]; exact I'.1
  have h32 := x3.1.2.2.2.1.2.2.2.2.2.2.2.1.2.2
  rw [jlt_in (by decide) (by decide), Option.bind_some, jlt_in (by decide) (by decide), Option.bind_some, r21, r20, h32.1, x47, ← I'.2.1]
  have hp0 : 0 ≤ jf w 1000 (H + 153) 0 ∧ jf w 1000 (H + 153) 0 ≤ 4096 := by rw [I'.2.1, ← x47]; exact h32.2
  have cm := com2 (p := jf w 1000 (H + 153) 0) (d := jf w 41 H 53) (y := jf w 41 H 52) (x := pPut 3 (K, R, 0, 0)) (F := fun q5 => jth q5.2.1 (some (q5.1, true, q5.2.2)) ((jlt q5.1 1000 (A + 7) 4 0).bind fun v6 => (m_X2_word q5.1 (A + (-4147)) 3 K R 0 0).bind fun q7 => jth q7.2.1 (some (q7.1, true, q7.2.2)) ((m_X33_putNumber q7.1 A q7.2.2 4).bind fun q8 => jth q8.2.1 (some (q8.1, true, q8.2.2)) (if (0 : Int) < 0 then (m_X33_move q8.1 A 0 v6 (-1) 0).bind fun q9 => jth q9.2.1 (some (q9.1, true, q9.2.2)) (some (q9.1, false, 0)) else some (q8.1, false, 0))))) x3 x34 hp0 (by omega) v0 (fun _ _ => rfl) fun u5 w5 d5 g5 m5 => by
    dsimp only
    obtain ⟨z0, -⟩ := word4 (kn := 3) g5 (by decide) gd3 rg3
    have z0 : m_X2_word u5 (A + (-4147)) 3 K R 0 0 = some (u5, false, pPut 3 (K, R, 0, 0)) := z0
    rw [jth_ff, jlt_in (by decide) (by decide), Option.bind_some, z0, Option.bind_some]
    dsimp only
    rw [jth_ff]
    simp only [if_neg (show ¬ (0 : Int) < 0 by decide)]
  have fe : ((m_X37_putBytes x1 H (pPut 3 (K, R, 0, 0)) 4).bind fun q2 => if q2.2 = 0 then some (q2.1, Wz 0) else (m_X37_wordMove q2.1 H (jf w 1000 (H + 153) 0) 19 (jf q2.1 41 H 53) (jf q2.1 41 H 52)).bind fun q3 => if q3.2 = 0 then some (q3.1, Wz 0) else some (q3.1, Wz 1)) = ((m_X37_putBytes x1 H (pPut 3 (K, R, 0, 0)) 4).bind fun q2 => if q2.2 = 0 then some (q2.1, Wz 0) else (m_X37_wordMove q2.1 H (jf w 1000 (H + 153) 0) 19 (jf w 41 H 53) (jf w 41 H 52)).bind fun q3 => if q3.2 = 0 then some (q3.1, Wz 0) else some (q3.1, Wz 1)) := by
    rcases putNum2 (x := pPut 3 (K, R, 0, 0)) x3 (n := 4) (by omega) (by decide) (by decide) with ⟨q', r2, b1, b2, b3⟩ | ⟨u', w2, v', b1, b2, b3, b4, b5, b6⟩
    · rw [b2, Option.bind_some, Option.bind_some, if_pos rfl, if_pos rfl]
    · rw [b2, Option.bind_some, Option.bind_some]
      dsimp only
      rw [if_neg n10, if_neg n10, b6.2.1 _ _ _ (by omega), b6.2.1 _ _ _ (by omega), x53, x52]
  rw [fe]
  refine cm.mono fun u5 w5 d5 q5 => ?_
  have := (E'.trans q5).2.2
  unfold inQ; omega
/-- what has no operands -/
theorem noned (h : AG s t A H b lo NL I OL SL k z) (hI : inI H t) (hx : x = 1 ∧ w1 = 200 ∨ x = 23 ∧ w1 = 222) : stO s t A H b lo NL I OL SL k z (if jf s 37 A 35 = 0 then u_X33_other_169 s A x 1 A else u_X33_other_169 s A x 0 A) (m_X37_other t H w1) (inQ t H) := by
  have eo : m_X37_other t H w1 = if jf t 41 H 46 = 0 then (m_X37_one t H (if x = 1 then 18 else 3) 0 (if x = 1 then 0 else 1) 0 0).bind fun q1 => some (q1.1, Wz q1.2) else (m_X37_fail t H 12).bind fun q2 => some (q2.1, Wz q2.2) := by
    rw [em_X37_other]
    rcases hx with ⟨rfl, rfl⟩ | ⟨rfl, rfl⟩ <;> rfl
  rw [eo, h.2.1.2.2.1, h.2.1.2.2.2, eu_X33_other_169]; unfold du_X33_other_169
  by_cases c : z.2.2.2.1 = 0
  rotate_left
  · rw [if_neg c, if_neg c]
    exact .bad0 h (by decide) fun _ _ => rfl
  rw [if_pos c, if_pos c, needOk n10]
  dsimp only
  obtain ⟨s0, t0, e1, e2, -⟩ := started_e h hI
  rw [jth_ff, e1, Option.bind_some]
  dsimp only
  rcases hx with ⟨rfl, rfl⟩ | ⟨rfl, rfl⟩
  · exact finW (sumW (kn := 18) h hI e1 (by decide) (gd48 (by decide) z31 z31 z31 (gd0 (by decide))) (rg4 z31 z31 z31 rz0)) inQ.any
  · exact finW (sumW (kn := 3) h hI e1 (by decide) (gd48 (by decide) z31 o31 z31 (gd0 (by decide))) (rg4 z31 o31 z31 rz0)) inQ.any
end jOther2
