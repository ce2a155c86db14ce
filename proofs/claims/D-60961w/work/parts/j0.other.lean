/-! instructions that stand for others, both sides -/
set_option maxRecDepth 100000
section jOther
variable {s t u w s1 t1 s0 r : jS} {v A H b lo k c a x y d n j low kd e m p D B C J n0 v0 v1 v2 o w1 : Int} {kn i : Nat} {l : List Int} {NL : List (List Int)} {I : pI} {OL : List pvO} {SL : List pvS} {z : pvS} {zo : pvO} {Q Q' : jS → jS → Int → Prop} {xx : Option (jS × Bool × Int)} {yy : Option (jS × Int)} {P : Prop}
theorem z31 : (0 : Int) ≤ 0 ∧ (0 : Int) ≤ 31 := ⟨by decide, by decide⟩
theorem o31 : (0 : Int) ≤ 1 ∧ (1 : Int) ≤ 31 := ⟨by decide, by decide⟩
theorem r31 : (0 : Int) ≤ 6 ∧ (6 : Int) ≤ 31 := ⟨by decide, by decide⟩
theorem rz0 : rgJ 0 := ⟨by decide, by decide⟩
/-- the address of a place, or a number, or neither -/
theorem told_u (g : AG u w A H b lo NL I OL SL k z) (hE : vlE u w A H 1) : (if jf u 1000 (A + 21) 1 = -1 then (jlt u 1000 (A + 22) 800 1).bind fun v5 => if v5 = -1 then u_X33_told_44 u A x 1 else u_X33_told_43 u A x else u_X33_told_43 u A x) = if jf w 41 H 53 = -1 ∧ jf w 41 H 54 = -1 then u_X33_told_79 u A 1 1 A else if ¬ x = 0 ∧ ¬ jf w 41 H 53 = -1 ∧ jf w 41 H 54 = -1 then u_X33_told_79 u A 0 1 A else u_X33_told_79 u A 0 0 A := by
  obtain ⟨E0, E1, E2⟩ := hE
  have e44 : ∀ y, u_X33_told_44 u A x y = if y = 0 then if x = 0 then u_X33_told_79 u A y 0 A else if jf w 41 H 53 = -1 then u_X33_told_79 u A y 0 A else if jf w 41 H 54 = -1 then u_X33_told_79 u A y 1 A else u_X33_told_79 u A y 0 A else u_X33_told_79 u A y 1 A := fun y => by
    rw [eu_X33_told_44]; unfold du_X33_told_44
    rw [jlt_in (by decide) (by decide), jlt_in (by decide) (by decide), E1, E2, Option.bind_some, Option.bind_some, eu_X33_told_74, eu_X33_told_78]; rfl
  have e43 : u_X33_told_43 u A x = u_X33_told_44 u A x 0 := by rw [eu_X33_told_43]; rfl
  rw [E1, jlt_in (by decide) (by decide), E2, Option.bind_some, e43, e44, e44]
  by_cases c1 : jf w 41 H 53 = -1 <;> by_cases c2 : jf w 41 H 54 = -1 <;> by_cases c3 : x = 0 <;> simp [c1, c2, c3]
/-- a number loaded, by the component's last unit -/
theorem told_n (g : AG u w A H b lo NL I OL SL k z) (hI : inI H w) (hc : arC OL z 2 1 0 0) (hE : vlE u w A H 1) (hv : vGo (jf w 41 H 12) (jf w 41 H 52, jf w 41 H 53, jf w 41 H 54)) : stO u w A H b lo NL I OL SL k z (u_X33_told_79 u A 1 1 A) (m_X37_loadNumber w H (tO OL (z.2.2.1 + 0)).2.1 (jf w 41 H 52)) (inQ w H) := by
  have e0 : z.2.2.1 + 0 = z.2.2.1 := by omega
  have hs : (tO OL (z.2.2.1 + 0)).1 = 1 := by rw [e0]; exact (hc.2.1 (by decide)).1
  have rb := g.rb (j := 0) (by decide) (by have := hc.1; omega) hs
  obtain ⟨s0, t0, e1, e2, e3, e4⟩ := started_e g hI
  rw [eu_X33_told_79]; unfold du_X33_told_79
  rw [needAtOk n10]
  dsimp only
  rw [jth_ff, e1, Option.bind_some]
  dsimp only
  rw [c_rgst e2 (by decide) (by have := hc.1; omega), Option.bind_some, jlt_in (by decide) (by decide), Option.bind_some, e4, hE.1]
  simp only [jlet]
  rw [if_neg n10]
  exact ldN g hI e1 rb hv.1
theorem told_p (g : AG u w A H b lo NL I OL SL k z) (hI : inI H w) (hc : arC OL z 2 1 0 0) (hE : vlE u w A H 1) (hv : vGo (jf w 41 H 12) (jf w 41 H 52, jf w 41 H 53, jf w 41 H 54)) : stO u w A H b lo NL I OL SL k z (u_X33_told_79 u A 0 1 A) ((m_X37_word w H 18 (tO OL (z.2.2.1 + 0)).2.1 (tO OL (z.2.2.1 + 0)).2.1 0 0).bind fun q6 => m_X37_pair q6.1 H (tO OL (z.2.2.1 + 0)).2.1 q6.2 24) (inQ w H) := by
  have e0 : z.2.2.1 + 0 = z.2.2.1 := by omega
  have hs : (tO OL (z.2.2.1 + 0)).1 = 1 := by rw [e0]; exact (hc.2.1 (by decide)).1
  have rb := g.rb (j := 0) (by decide) (by have := hc.1; omega) hs
  obtain ⟨s0, t0, e1, e2, e3, e4⟩ := started_e g hI
  rw [eu_X33_told_79]; unfold du_X33_told_79
  rw [needAtOk n10]
  dsimp only
  rw [jth_ff, e1, Option.bind_some]
  dsimp only
  rw [c_rgst e2 (by decide) (by have := hc.1; omega), Option.bind_some, jlt_in (by decide) (by decide), Option.bind_some]
  simp only [jlet]
  rw [if_pos trivial]
  exact finC (twC (kn := 18) (low := 24) g hI e1 (by decide) rb rb z31 (by decide) (j := 1) (by decide) (by decide) hE hv) inQ.any
theorem told_b (g : AG u w A H b lo NL I OL SL k z) (hc : arC OL z 2 1 0 0) {G : jS × Int → Option (jS × Int)} (hg : ∀ r, G (r, 0) = some (r, 0)) : stO u w A H b lo NL I OL SL k z (u_X33_told_79 u A 0 0 A) ((m_X37_placeOf w H (z.2.2.1 + 1)).bind fun q1 => (m_X37_fail_2 q1.1 H 14 q1.2).bind G) Q := by
  rw [eu_X33_told_79]; unfold du_X33_told_79
  exact .badAt g (by decide) (by decide) (by have := hc.1; omega) (fun _ _ => rfl) hg
/-- a number or a place into a register: li -/
theorem told_0 (h : AG s t A H b lo NL I OL SL k z) (hI : inI H t) : stO s t A H b lo NL I OL SL k z (m_X33_told s A 0) (m_X37_other t H 201) (inQ t H) := by
  have eo : m_X37_other t H 201 = (m_X37_are t H 2 1 0 0).bind fun q3 => if q3.2 = 0 then (m_X37_fail q3.1 H 12).bind fun q4 => some (q4.1, Wz q4.2) else (m_X37_plain q3.1 H (W32 ((jf q3.1 41 H 45) + 1))).bind fun q5 => if q5.2 = 0 then some (q5.1, Wz 0) else (m_X37_registerOf q5.1 H (jf q5.1 41 H 45)).bind fun q6 => (m_X37_loadNumber q6.1 H q6.2 (jf q6.1 41 H 52)).bind fun q7 => if q7.2 = 0 then some (q7.1, Wz 0) else some (q7.1, Wz 1) := by
    rw [em_X37_other]; rfl
  rw [eo, em_X33_told]; unfold dm_X33_told
  by_cases hc : arC OL z 2 1 0 0
  rotate_left
  · rw [(takRE h).2 hc, Option.bind_some, y_arN h hc, Option.bind_some, if_pos rfl]
    exact .bad0 h (by decide) fun _ _ => rfl
  rw [(takRE h).1 hc, Option.bind_some, y_arY h hc, Option.bind_some, needOk n10]
  dsimp only
  obtain ⟨o1, o2, o3, og, o5⟩ := h.1.op (j := 1) (by decide) (by have := hc.1; omega)
  have st0 := h.1.st0
  rw [jth_ff, if_neg n10, h.2.1.2.1, W32_in (by omega) (by omega), em_X37_plain]; unfold dm_X37_plain
  rw [Option.bind_assoc]
  have hg0 : ∀ {R : Option (jS × Int)} {G : jS × Int → Option (jS × Int)} (r : jS), (if (r, (0 : Int)).2 = 0 then some ((r, (0 : Int)).1, Wz 0) else R).bind (fun q5 => if q5.2 = 0 then some (q5.1, Wz 0) else G q5) = some (r, 0) := fun r => by rw [if_pos rfl, Wz_0, Option.bind_some, if_pos rfl]
  refine (value3 h (j := 1) (by decide) (by have := hc.1; omega) (.inl (hc.2.2.1 (by decide)).1)).bind (fun _ _ => rfl) (fun r => hg0 r) fun u w v g c1 c2 q => ?_
  dsimp only
  rw [jth_ff, if_neg n10, jlt_in (by decide) (by decide), Option.bind_some, told_u g q.2.2.1, plainI, Option.bind_some]
  have I' := hI.ks q.ks
  by_cases pl : jf w 41 H 53 = -1 ∧ jf w 41 H 54 = -1
  · rw [if_pos pl, if_neg (by rw [if1 pl]; decide), Wz_1, Option.bind_some, if_neg n10, y_rg0 g (by have := hc.1; omega), Option.bind_some]
    have := (finY1 (told_n g I' hc q.2.2.1 q.2.2.2.1)).mono (inQ.of q.ks.1)
    rw [Wz_1] at this
    exact this
  · rw [if_neg pl, if_neg (fun e => e.1 rfl), if_pos (if0 pl), Option.bind_assoc]
    simp only [Option.bind_assoc]
    refine told_b (G := fun q4 => (if q4.2 = 0 then some (q4.1, Wz 0) else some (q4.1, Wz 1)).bind _) g hc fun r => ?_
    rw [if_pos rfl, Wz_0, Option.bind_some, if_pos rfl]
/-- la -/
theorem told_1 (h : AG s t A H b lo NL I OL SL k z) (hI : inI H t) : stO s t A H b lo NL I OL SL k z (m_X33_told s A 1) (m_X37_other t H 202) (inQ t H) := by
  have eo : m_X37_other t H 202 = (m_X37_are t H 2 1 0 0).bind fun q8 => if q8.2 = 0 then (m_X37_fail q8.1 H 12).bind fun q9 => some (q9.1, Wz q9.2) else (m_X37_registerOf q8.1 H (jf q8.1 41 H 45)).bind fun q10 => (m_X37_address q10.1 H q10.2).bind fun q11 => some (q11.1, Wz q11.2) := by
    rw [em_X37_other]; rfl
  rw [eo, em_X33_told]; unfold dm_X33_told
  by_cases hc : arC OL z 2 1 0 0
  rotate_left
  · rw [(takRE h).2 hc, Option.bind_some, y_arN h hc, Option.bind_some, if_pos rfl]
    exact .bad0 h (by decide) fun _ _ => rfl
  rw [(takRE h).1 hc, Option.bind_some, y_arY h hc, Option.bind_some, needOk n10]
  dsimp only
  obtain ⟨o1, o2, o3, og, o5⟩ := h.1.op (j := 1) (by decide) (by have := hc.1; omega)
  have st0 := h.1.st0
  rw [jth_ff, if_neg n10, y_rg0 h (by have := hc.1; omega), Option.bind_some]
  refine finY0 ?_
  dsimp only
  rw [em_X37_address]; unfold dm_X37_address
  rw [h.2.1.2.1, W32_in (by omega) (by omega)]
  refine (value3 h (j := 1) (by decide) (by have := hc.1; omega) (.inl (hc.2.2.1 (by decide)).1)).bind (fun _ _ => rfl) (fun r => tw0 r) fun u w v g c1 c2 q => ?_
  dsimp only
  rw [jth_ff, if_neg n10, jlt_in (by decide) (by decide), Option.bind_some, told_u g q.2.2.1, plainI, Option.bind_some, placedI, Option.bind_some]
  have I' := hI.ks q.ks
  by_cases pl : jf w 41 H 53 = -1 ∧ jf w 41 H 54 = -1
  · rw [if_pos pl, if_neg (by rw [if1 pl]; decide)]
    exact (finY0 (told_n g I' hc q.2.2.1 q.2.2.2.1)).mono (inQ.of q.ks.1)
  rw [if_neg pl, if_pos (if0 pl)]
  by_cases cp : ¬ jf w 41 H 53 = -1 ∧ jf w 41 H 54 = -1
  · rw [if_pos ⟨n10, cp⟩, if_neg (by rw [if1 cp]; decide)]
    have := finY0 (told_p g I' hc q.2.2.1 q.2.2.2.1)
    rw [Option.bind_assoc] at this
    exact this.mono (inQ.of q.ks.1)
  · rw [if_neg (fun e => cp e.2), if_pos (if0 cp), g.2.1.2.1, W32_in (by omega) (by omega)]
    exact told_b (G := fun q5 => some (q5.1, Wz q5.2)) g hc fun r => tw1 r
/-- two registers -/
theorem paird (h : AG s t A H b lo NL I OL SL k z) (hI : inI H t) (o0 : 4 ≤ o) (o1 : o ≤ 10) (hw : w1 = o + 199) : stO s t A H b lo NL I OL SL k z (m_X33_paired s A o) (u_X37_other_364 t H w1) (inQ t H) := by
  have e0 : z.2.2.1 + 0 = z.2.2.1 := by omega
  rw [em_X33_paired, eu_X37_other_364]; unfold dm_X33_paired du_X37_other_364
  rw [if_neg (by omega)]
  by_cases hc : arC OL z 2 1 1 0
  rotate_left
  · rw [(takRR h).2 hc, Option.bind_some, y_arN h hc, Option.bind_some, if_pos rfl]
    exact .bad0 h (by decide) fun _ _ => rfl
  have hm := hc.1
  have s0' : (tO OL (z.2.2.1 + 0)).1 = 1 := by rw [e0]; exact (hc.2.1 (by decide)).1
  have s1' : (tO OL (z.2.2.1 + 1)).1 = 1 := (hc.2.2.1 (by decide)).1
  have b0 := h.rb (j := 0) (by decide) (by omega) s0'
  have b1 := h.rb (j := 1) (by decide) (by omega) s1'
  obtain ⟨s0, t0, e1, e2, e3, e4⟩ := started_e h hI
  rw [(takRR h).1 hc, Option.bind_some, y_arY h hc, Option.bind_some, needOk n10]
  dsimp only
  rw [jth_ff, if_neg n10, y_rg0 h (by omega), Option.bind_some]
  dsimp only
  rw [y_rgj h (by decide) (by omega), Option.bind_some, e1, Option.bind_some]
  dsimp only
  rw [c_rgst e2 (by decide) (by omega), Option.bind_some, c_rgst e2 (by decide) (by omega), Option.bind_some, em_X37_two]; unfold dm_X37_two
  refine finY0 ?_
  have r1 : rgJ 1 := ⟨by decide, by decide⟩
  have rm : rgJ (-1) := ⟨by decide, by decide⟩
  have i21 : (cFd 21 3).1 = 0 ∨ fMay (cFd 21 3) (-1) := .inr ((fimm_k _ 21 (by decide) (by decide)).mpr (imm_lo (kd := 21) (by decide) (by decide) (by omega)))
  have i20 : (cFd 20 3).1 = 0 ∨ fMay (cFd 20 3) 1 := .inr ((fimm_k _ 20 (by decide) (by decide)).mpr (imm_lo (kd := 20) (by decide) (by decide) (by omega)))
  generalize (tO OL (z.2.2.1 + 0)).2.1 = D at *
  generalize (tO OL (z.2.2.1 + 1)).2.1 = B at *
  have ho : o = 4 ∨ o = 5 ∨ o = 6 ∨ o = 7 ∨ o = 8 ∨ o = 9 ∨ o = 10 := by omega
  rcases ho with rfl | rfl | rfl | rfl | rfl | rfl | rfl
  · subst hw
    rw [if_pos rfl, if_pos (by decide)]
    exact finW (sumW (kn := 18) h hI e1 (by decide) (gd48 (by decide) b0 b1 z31 (gd0 (by decide))) (rg4 b0 b1 z31 rz0)) inQ.any
  · subst hw
    rw [if_neg (by decide), if_pos rfl, if_neg (by decide), if_pos (by decide)]
    exact finW (sumW (kn := 21) h hI e1 (by decide) (gd48 (by decide) b0 b1 z31 i21) (rg4 b0 b1 z31 rm)) inQ.any
  · subst hw
    rw [if_neg (by decide), if_neg (by decide), if_pos rfl, if_neg (by decide), if_neg (by decide), if_pos (by decide)]
    exact finY0 (oneW (kn := 28) h hI e1 (by decide) (gd48 (by decide) b0 z31 b1 (gd0 (by decide))) (rg4 b0 z31 b1 rz0))
  · subst hw
    rw [if_neg (by decide), if_neg (by decide), if_neg (by decide), if_pos rfl, if_neg (by decide), if_neg (by decide), if_neg (by decide), if_pos (by decide)]
    exact finW (sumW (kn := 20) h hI e1 (by decide) (gd48 (by decide) b0 b1 z31 i20) (rg4 b0 b1 z31 r1)) inQ.any
  · subst hw
    rw [if_neg (by decide), if_neg (by decide), if_neg (by decide), if_neg (by decide), if_pos rfl, if_neg (by decide), if_neg (by decide), if_neg (by decide), if_neg (by decide), if_pos (by decide)]
    exact finY0 (oneW (kn := 31) h hI e1 (by decide) (gd48 (by decide) b0 z31 b1 (gd0 (by decide))) (rg4 b0 z31 b1 rz0))
  · subst hw
    rw [if_neg (by decide), if_neg (by decide), if_neg (by decide), if_neg (by decide), if_neg (by decide), if_pos rfl, if_neg (by decide), if_neg (by decide), if_neg (by decide), if_neg (by decide), if_neg (by decide), if_pos (by decide)]
    exact finY0 (oneW (kn := 30) h hI e1 (by decide) (gd48 (by decide) b0 b1 z31 (gd0 (by decide))) (rg4 b0 b1 z31 rz0))
  · subst hw
    rw [if_neg (by decide), if_neg (by decide), if_neg (by decide), if_neg (by decide), if_neg (by decide), if_neg (by decide), if_neg (by decide), if_neg (by decide), if_neg (by decide), if_neg (by decide), if_neg (by decide), if_neg (by decide)]
    exact finY0 (oneW (kn := 30) h hI e1 (by decide) (gd48 (by decide) b0 z31 b1 (gd0 (by decide))) (rg4 b0 z31 b1 rz0))
end jOther
