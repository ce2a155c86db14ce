/-! instructions, both sides *-/
set_option maxRecDepth 100000
section jInstr
variable {s t u w s1 t1 s0 r : jS} {v A H b lo k c a x y d n j low kd e m p D B C J n0 v0 v1 v2 o w1 pt : Int} {kn i : Nat} {l : List Int} {NL : List (List Int)} {I : pI} {OL : List pvO} {SL : List pvS} {z : pvS} {zo : pvO} {Q Q' : jS → jS → Int → Prop} {xx : Option (jS × Bool × Int)} {yy : Option (jS × Int)} {P : Prop}
theorem other2 (h : AG s t A H b lo NL I OL SL k z) (hI : inI H t) (o0 : 1 ≤ o) (o1 : o ≤ 25) : stO s t A H b lo NL I OL SL k z (m_X33_other s A o) (m_X37_other t H (o + 199)) (inQ t H) := by
  have e0 : z.2.2.1 + 0 = z.2.2.1 := by omega
  have hm := h.2.1.2.2.1
  have e364 : 4 ≤ o → o ≤ 20 → m_X37_other t H (o + 199) = u_X37_other_364 t H (o + 199) := fun a b => by
    have : o = 4 ∨ o = 5 ∨ o = 6 ∨ o = 7 ∨ o = 8 ∨ o = 9 ∨ o = 10 ∨ o = 11 ∨ o = 12 ∨ o = 13 ∨ o = 14 ∨ o = 15 ∨ o = 16 ∨ o = 17 ∨ o = 18 ∨ o = 19 ∨ o = 20 := by omega
    rw [em_X37_other]
    rcases this with rfl | rfl | rfl | rfl | rfl | rfl | rfl | rfl | rfl | rfl | rfl | rfl | rfl | rfl | rfl | rfl | rfl <;> rfl
  have e59 : o < 4 ∨ 20 < o → m_X33_other s A o = u_X33_other_59 s A o := fun c => by
    rw [em_X33_other]; unfold dm_X33_other
    rw [eu_X33_other_20]; unfold du_X33_other_20
    rw [eu_X33_other_40]; unfold du_X33_other_40
    by_cases c4 : o < 4
    · rw [if_pos (by omega), if_pos (by omega), if_pos c4]
    · rw [if_neg (by omega), if_neg (by omega), if_neg (by omega), if_neg (by omega), if_neg c4, if_neg (by omega)]
  by_cases g1 : 4 ≤ o ∧ o ≤ 10
  · rw [e364 (by omega) (by omega), em_X33_other]; unfold dm_X33_other
    rw [if_pos (by omega), eu_X33_other_20]; unfold du_X33_other_20
    rw [if_pos (by omega), eu_X33_other_40]; unfold du_X33_other_40
    rw [if_neg (by omega), if_pos (by omega)]
    exact finC (paird h hI g1.1 g1.2 rfl) inQ.any
  by_cases g2 : 11 ≤ o ∧ o ≤ 16
  · rw [e364 (by omega) (by omega), em_X33_other]; unfold dm_X33_other
    rw [if_neg (by omega), if_pos (by omega)]
    exact finC (branchd h hI g2.1 g2.2 rfl) inQ.any
  by_cases g3 : 17 ≤ o ∧ o ≤ 20
  · rw [e364 (by omega) (by omega), em_X33_other]; unfold dm_X33_other
    rw [if_neg (by omega), if_neg (by omega), eu_X33_other_20]; unfold du_X33_other_20
    rw [if_neg (by omega), if_pos (by omega)]
    exact finC (turnd h hI g3.1 g3.2 rfl) inQ.any
  rw [e59 (by omega), eu_X33_other_59]; unfold du_X33_other_59
  have ho : o = 1 ∨ o = 2 ∨ o = 3 ∨ o = 21 ∨ o = 22 ∨ o = 23 ∨ o = 24 ∨ o = 25 := by omega
  clear e59 e364 g1 g2 g3
  rcases ho with rfl | rfl | rfl | rfl | rfl | rfl | rfl | rfl
  · rw [if_neg (by decide), if_neg (by decide), if_neg (by decide), if_neg (by decide), if_neg (by decide)]
    exact noned h hI (.inl ⟨rfl, rfl⟩)
  · rw [if_pos rfl, eu_X33_other_69]; unfold du_X33_other_69
    rw [if_neg (by decide), eu_X33_other_80]; unfold du_X33_other_80
    exact finC (told_0 h hI) inQ.any
  · rw [if_neg (by decide), if_pos rfl, eu_X33_other_69]; unfold du_X33_other_69
    rw [if_pos rfl, eu_X33_other_80]; unfold du_X33_other_80
    exact finC (told_1 h hI) inQ.any
  · rw [if_neg (by decide), if_neg (by decide), if_pos rfl]
    refine finC ?_ inQ.any
    have eo : m_X37_other t H (21 + 199) = (m_X37_are t H 1 0 0 0).bind fun q12 => if q12.2 = 0 then (m_X37_fail q12.1 H 12).bind fun q13 => some (q13.1, Wz q13.2) else (m_X37_placed q12.1 H (jf q12.1 41 H 45)).bind fun q14 => if q14.2 = 0 then some (q14.1, Wz 0) else (m_X37_oneMoved q14.1 H 2 0 0 0 17).bind fun q15 => if q15.2 = 0 then some (q15.1, Wz 0) else some (q15.1, Wz 1) := by
      rw [em_X37_other]; rfl
    rw [eo]
    by_cases hc : arC OL z 1 0 0 0
    rotate_left
    · rw [y_arN h hc, Option.bind_some, if_pos rfl, em_X33_jumped]; unfold dm_X33_jumped
      rw [(takE h).2 hc, Option.bind_some]
      exact .bad0 h (by decide) fun _ _ => rfl
    rw [y_arY h hc, Option.bind_some]
    dsimp only
    rw [if_neg n10, h.2.1.2.1]
    refine jumpd (kn := 2) (o := 17) (G := fun q => if q.2 = 0 then some (q.1, Wz 0) else some (q.1, Wz 1)) h hI ((takE (v1 := 0) (v2 := 0) h).1 hc) (by decide) z31 z31 z31 rfl (j := 0) (by decide) (by have := hc.1; omega) (by rw [e0]; exact (hc.2.1 (by decide)).1) e0.symm (fun r => tw0 r) tE1 (fun r => tw0 r) fun {u w} g => ?_
    dsimp only
    rw [if_neg n10]; rfl
  · rw [if_neg (by decide), if_neg (by decide), if_neg (by decide), if_pos rfl]
    have eo : m_X37_other t H (22 + 199) = (m_X37_are t H 1 1 0 0).bind fun q16 => if q16.2 = 0 then (m_X37_fail q16.1 H 12).bind fun q17 => some (q17.1, Wz q17.2) else (m_X37_registerOf q16.1 H (jf q16.1 41 H 45)).bind fun q18 => (m_X37_one q18.1 H 3 0 q18.2 0 0).bind fun q19 => some (q19.1, Wz q19.2) := by
      rw [em_X37_other]; rfl
    rw [eo]
    by_cases hc : arC OL z 1 1 0 0
    rotate_left
    · rw [y_arN h hc, Option.bind_some, if_pos rfl, em_X33_returned]; unfold dm_X33_returned
      rw [(takR h).2 hc, Option.bind_some]
      refine finC ?_ fun _ _ _ _ => id
      exact .bad0 h (by decide) fun _ _ => rfl
    rw [y_arY h hc, Option.bind_some]
    dsimp only
    rw [if_neg n10, y_rg0 h (by have := hc.1; omega), Option.bind_some]
    exact finW (returnd h hI hc z31) inQ.any
  · rw [if_neg (by decide), if_neg (by decide), if_neg (by decide), if_neg (by decide), if_neg (by decide)]
    exact noned h hI (.inr ⟨rfl, rfl⟩)
  · rw [if_neg (by decide), if_neg (by decide), if_neg (by decide), if_neg (by decide), if_pos (by decide), if_pos rfl, eu_X33_other_139]; unfold du_X33_other_139
    rw [if_pos rfl, eu_X33_other_150]; unfold du_X33_other_150
    have eo : m_X37_other t H (24 + 199) = (m_X37_calls t H 0).bind fun q1 => some (q1.1, Wz q1.2) := by
      have : m_X37_other t H (24 + 199) = u_X37_other_347 t H 223 := by rw [em_X37_other]; rfl
      rw [this, eu_X37_other_347]; unfold du_X37_other_347
      rw [if_neg (by decide), eu_X37_other_360]; rfl
    rw [eo]
    exact finW (calld (x := 0) h hI (.inl rfl)) inQ.any
  · rw [if_neg (by decide), if_neg (by decide), if_neg (by decide), if_neg (by decide), if_pos (by decide), if_neg (by decide), eu_X33_other_139]; unfold du_X33_other_139
    rw [if_neg (by decide), eu_X33_other_150]; unfold du_X33_other_150
    have eo : m_X37_other t H (25 + 199) = (m_X37_calls t H 1).bind fun q1 => some (q1.1, Wz q1.2) := by
      have : m_X37_other t H (25 + 199) = u_X37_other_347 t H 224 := by rw [em_X37_other]; rfl
      rw [this, eu_X37_other_347]; unfold du_X37_other_347
      rw [if_pos rfl, eu_X37_other_360]; rfl
    rw [eo]
    exact finW (calld (x := 1) h hI (.inr rfl)) inQ.any
/-- a kind that doesn't take these operands -/
theorem badK {f : jS × Bool × Int → Option (jS × Bool × Int)} (h : AG s t A H b lo NL I OL SL k z) (k0 : 0 ≤ kd) (k1 : kd < 75) (hp : (cKd kd.toNat).1 = pt) (hn : ¬ (z.2.2.2.1 = (ptS pt).length ∧ tkA kd (ptS pt) OL z 0)) (hf : ∀ u d, f (u, true, d) = some (u, true, d)) : stO s t A H b lo NL I OL SL k z ((m_X33_need s A 0 12).bind f) (m_X37_byKind t H kd) Q := by
  rw [em_X37_byKind]; unfold dm_X37_byKind
  rw [t_about h.cx.2 k0 k1, Option.bind_some, hp]
  obtain ⟨w1, G1⟩ : ∃ w1, w1 = jp t 42 (H + 4) 0 0 := ⟨_, rfl⟩
  obtain ⟨g1, r1, -⟩ := jpF G1
  rw [← G1]
  have tf1 : tF H t w1 := tF.rfl.wr G1 (by omega)
  have h' : AG s w1 A H b lo NL I OL SL k z := h.scr cFa.rfl opU.rfl tf1 (fun c a i z1 z2 z3 => g1 _ _ _ (by omega))
  refine stO.pre ?_ cFa.rfl tf1
  dsimp only
  rw [y_fits h' k0 k1 hp, Option.bind_some]
  dsimp only
  rw [if_pos (zt0 hn)]
  exact .bad0 h' (by decide) hf
/-- an instruction by its kind -/
theorem inst2 (h : AG s t A H b lo NL I OL SL k z) (hI : inI H t) (hr : ∀ i, 0 ≤ i → i < 4 → jf t 1000 (H + 169) i = 0) (hz : jf t 41 H 59 = 0) (k0 : 0 ≤ kd) (k1 : kd < 75) : stO s t A H b lo NL I OL SL k z (if kd = 2 then if jf s 37 A 35 = 1 then (m_X33_jumped s A (jc s 47) 2 1 0 0).bind fun q3 => jth q3.2.1 (some (q3.1, true, q3.2.2)) (some (q3.1, false, 0)) else u_X33_instruction_128 s A kd else u_X33_instruction_128 s A kd) (m_X37_instruction t H kd) (inQ t H) := by
  have e0 : z.2.2.1 + 0 = z.2.2.1 := by omega
  have hm := h.2.1.2.2.1
  have pats : ∀ k : Nat, k < 75 → (k = 2 → (cKd k).1 = 7) ∧ (k = 3 ∨ 10 ≤ k ∧ k ≤ 14 → (cKd k).1 = 3) ∧ (15 ≤ k ∧ k ≤ 17 → (cKd k).1 = 4) := by decide +kernel
  obtain ⟨P2, P3, P4⟩ := pats kd.toNat (by omega)
  have st0 := h.1.st0
  have by2 := byKind2 h hI hr hz k0 k1
  have Y228 : u_X37_instruction_228 t H kd = (m_X37_byKind t H kd).bind fun q1 => some (q1.1, Wz q1.2) := by rw [eu_X37_instruction_228]; rfl
  have Y149 : kd < 15 ∨ 17 < kd ∨ ¬ arC OL z 3 1 0 1 → u_X37_instruction_149 t H kd = u_X37_instruction_228 t H kd := fun c => by
    rw [eu_X37_instruction_149]; unfold du_X37_instruction_149
    by_cases c1 : kd < 15
    · rw [if_pos c1]
    rw [if_neg c1]
    by_cases c2 : 17 < kd
    · rw [if_pos c2]
    rw [if_neg c2, y_arN h (by omega), Option.bind_some, if_pos rfl]
  have Y79 : kd < 10 ∨ 14 < kd ∨ ¬ arC OL z 2 1 0 0 → u_X37_instruction_79 t H kd = u_X37_instruction_149 t H kd := fun c => by
    rw [eu_X37_instruction_79]; unfold du_X37_instruction_79
    by_cases c1 : kd < 10
    · rw [if_pos c1]
    rw [if_neg c1]
    by_cases c2 : 14 < kd
    · rw [if_pos c2]
    rw [if_neg c2, y_arN h (by omega), Option.bind_some, if_pos rfl]
  have Y46 : ¬ kd = 3 ∨ ¬ arC OL z 1 1 0 0 → u_X37_instruction_46 t H kd = u_X37_instruction_79 t H kd := fun c => by
    rw [eu_X37_instruction_46]; unfold du_X37_instruction_46
    by_cases c1 : kd = 3
    · rw [if_pos c1, y_arN h (by omega), Option.bind_some, if_pos rfl]
    · rw [if_neg c1]
  have Y0 : ¬ kd = 2 ∨ ¬ arC OL z 1 0 0 0 → m_X37_instruction t H kd = u_X37_instruction_46 t H kd := fun c => by
    rw [em_X37_instruction]; unfold dm_X37_instruction
    by_cases c1 : kd = 2
    · rw [if_pos c1, y_arN h (by omega), Option.bind_some, if_pos rfl]
    · rw [if_neg c1]
  have C219 : u_X33_instruction_219 s A kd = (m_X33_byKind s A kd).bind fun q1 => jth q1.2.1 (some (q1.1, true, q1.2.2)) (some (q1.1, false, 0)) := by rw [eu_X33_instruction_219]; rfl
  have byG : stO s t A H b lo NL I OL SL k z (u_X33_instruction_219 s A kd) (u_X37_instruction_228 t H kd) (inQ t H) := by
    rw [C219, Y228]; exact finW by2 inQ.any
  have C188 : kd < 15 ∨ 18 ≤ kd ∨ ¬ z.2.2.2.1 = 3 → u_X33_instruction_188 s A kd = u_X33_instruction_219 s A kd := fun c => by
    rw [eu_X33_instruction_188]; unfold du_X33_instruction_188
    by_cases c1 : kd < 15
    · rw [if_pos c1]
    rw [if_neg c1]
    by_cases c2 : kd < 18
    · rw [if_pos c2, hm, if_neg (by omega)]
    · rw [if_neg c2]
  have C149 : kd < 10 ∨ 15 ≤ kd ∨ ¬ (z.2.2.2.1 = 2 ∧ opSr 0 (tO OL (z.2.2.1 + 1))) → u_X33_instruction_149 s A kd = u_X33_instruction_188 s A kd := fun c => by
    rw [eu_X33_instruction_149]; unfold du_X33_instruction_149
    by_cases c1 : kd < 10
    · rw [if_pos c1]
    rw [if_neg c1]
    by_cases c2 : kd < 15
    · rw [if_pos c2, hm]
      by_cases c3 : z.2.2.2.1 = 2
      · rw [if_pos c3, c_isX h (by decide) (by omega), Option.bind_some, if_pos (if0 fun e => by have := c.resolve_left (by omega); exact (this.resolve_left (by omega)) ⟨c3, e⟩)]
      · rw [if_neg c3]
    · rw [if_neg c2]
  have C128 : ¬ kd = 3 ∨ ¬ z.2.2.2.1 = 1 → u_X33_instruction_128 s A kd = u_X33_instruction_149 s A kd := fun c => by
    rw [eu_X33_instruction_128]; unfold du_X33_instruction_128
    by_cases c1 : kd = 3
    · rw [if_pos c1, hm, if_neg (by omega)]
    · rw [if_neg c1]
  by_cases c2 : kd = 2
  · rw [if_pos c2, hm]
    by_cases cm : z.2.2.2.1 = 1
    rotate_left
    · rw [if_neg cm, C128 (by omega), C149 (by omega), C188 (by omega), Y0 (.inr fun e => cm e.1), Y46 (by omega), Y79 (by omega), Y149 (by omega)]
      exact byG
    rw [if_pos cm]
    refine finC ?_ inQ.any
    by_cases hc : arC OL z 1 0 0 0
    rotate_left
    · rw [Y0 (.inr hc), Y46 (by omega), Y79 (by omega), Y149 (by omega), Y228, em_X33_jumped]; unfold dm_X33_jumped
      rw [(takE h).2 hc, Option.bind_some]
      refine finY0 (badK h k0 k1 (P2 (by omega)) (fun e => ?_) fun _ _ => rfl)
      have : z.2.2.2.1 = 2 := e.1
      omega
    rw [em_X37_instruction]; unfold dm_X37_instruction
    rw [if_pos c2, y_arY h hc, Option.bind_some]
    dsimp only
    rw [if_neg n10, h.2.1.2.1]
    refine jumpd (kn := 2) (o := 17) (G := fun q => if q.2 = 0 then some (q.1, Wz 0) else some (q.1, Wz 1)) h hI ((takE (v1 := 0) (v2 := 0) h).1 hc) (by decide) o31 z31 z31 rfl (j := 0) (by decide) (by have := hc.1; omega) (by rw [e0]; exact (hc.2.1 (by decide)).1) e0.symm (fun r => tw0 r) tE1 (fun r => tw0 r) fun {u w} g => ?_
    dsimp only
    rw [if_neg n10]; rfl
  rw [if_neg c2, Y0 (.inl c2)]
  by_cases c3 : kd = 3
  · by_cases cm : z.2.2.2.1 = 1
    rotate_left
    · rw [C128 (by omega), C149 (by omega), C188 (by omega), Y46 (.inr fun e => cm e.1), Y79 (by omega), Y149 (by omega)]
      exact byG
    rw [eu_X33_instruction_128]; unfold du_X33_instruction_128
    rw [if_pos c3, hm, if_pos cm]
    refine finC ?_ inQ.any
    by_cases hc : arC OL z 1 1 0 0
    rotate_left
    · rw [Y46 (.inr hc), Y79 (by omega), Y149 (by omega), Y228, em_X33_returned]; unfold dm_X33_returned
      rw [(takR h).2 hc, Option.bind_some]
      refine finY0 (badK h k0 k1 (P3 (by omega)) (fun e => ?_) fun _ _ => rfl)
      have : z.2.2.2.1 = 2 := e.1
      omega
    rw [eu_X37_instruction_46]; unfold du_X37_instruction_46
    rw [if_pos c3, y_arY h hc, Option.bind_some]
    dsimp only
    rw [if_neg n10, y_rg0 h (by omega), Option.bind_some]
    exact finY0 (returnd h hI hc o31)
  rw [C128 (.inl c3), Y46 (.inl c3)]
  obtain ⟨kn, rfl⟩ : ∃ kn : Nat, kd = kn := ⟨kd.toNat, by omega⟩
  by_cases ca : 10 ≤ kn ∧ kn < 15 ∧ (z.2.2.2.1 = 2 ∧ opSr 0 (tO OL (z.2.2.1 + 1)))
  · obtain ⟨a1, a2, a3, a4⟩ := ca
    rw [eu_X33_instruction_149]; unfold du_X33_instruction_149
    rw [if_neg (by omega), if_pos (by omega), hm, if_pos a3, c_isX h (by decide) (by omega), Option.bind_some, if_neg (by rw [if1 a4]; decide)]
    refine finC ?_ inQ.any
    by_cases hc : arC OL z 2 1 0 0
    rotate_left
    · rw [Y79 (by omega), Y149 (by omega), Y228, em_X33_far]; unfold dm_X33_far
      rw [(takRE h).2 hc, Option.bind_some]
      refine finY0 (badK h k0 k1 (P3 (by omega)) (fun e => ?_) fun _ _ => rfl)
      have e2 := ((tkA2 a3).mp e.2).2
      have e3 := tk77.mp e2
      unfold opSr at a4
      omega
    rw [eu_X37_instruction_79]; unfold du_X37_instruction_79
    rw [if_neg (by omega), if_neg (by omega), y_arY h hc, Option.bind_some]
    dsimp only
    obtain ⟨o1, o2, o3, og, o5⟩ := h.1.op (j := 1) (by decide) (by omega)
    rw [if_neg n10, y_rg0 h (by omega), Option.bind_some]
    dsimp only
    rw [h.2.1.2.1, W32_in (by omega) (by omega)]
    refine fard h hI ((takRE (v2 := 0) h).1 hc) (.inl ⟨a1, a2, hc⟩) rfl (fun r => tw0 r) fun {u w} g => ?_
    dsimp only
    rw [if_neg n10, if_pos a2]
  rw [C149 (by omega)]
  by_cases cb : 15 ≤ kn ∧ kn < 18 ∧ z.2.2.2.1 = 3
  · obtain ⟨a1, a2, a3⟩ := cb
    rw [eu_X33_instruction_188]; unfold du_X33_instruction_188
    rw [if_neg (by omega), if_pos (by omega), hm, if_pos a3, Y79 (by omega)]
    refine finC ?_ inQ.any
    by_cases hc : arC OL z 3 1 0 1
    rotate_left
    · rw [Y149 (by omega), Y228, em_X33_far]; unfold dm_X33_far
      rw [(takRER h).2 hc, Option.bind_some]
      refine finY0 (badK h k0 k1 (P4 (by omega)) (fun e => ?_) fun _ _ => rfl)
      have : z.2.2.2.1 = 2 := e.1
      omega
    rw [eu_X37_instruction_149]; unfold du_X37_instruction_149
    rw [if_neg (by omega), if_neg (by omega), y_arY h hc, Option.bind_some]
    dsimp only
    obtain ⟨o1, o2, o3, og, o5⟩ := h.1.op (j := 1) (by decide) (by omega)
    rw [if_neg n10, y_rgj h (by decide) (by omega), Option.bind_some]
    dsimp only
    rw [h.2.1.2.1, W32_in (by omega) (by omega)]
    refine fard (v2 := 0) h hI ((takRER h).1 hc) (.inr ⟨a1, a2, hc⟩) rfl (fun r => tw0 r) fun {u w} g => ?_
    dsimp only
    rw [if_neg n10, if_neg (by omega), y_rg0 g (by omega), Option.bind_some]
  rw [C188 (by omega)]
  have n2 : (kn : Int) < 10 ∨ 14 < (kn : Int) ∨ ¬ arC OL z 2 1 0 0 := by
    by_cases q : 10 ≤ kn ∧ kn < 15
    · exact .inr (.inr fun e => ca ⟨q.1, q.2, e.1, e.2.2.1 (by decide)⟩)
    · omega
  have n3 : (kn : Int) < 15 ∨ 17 < (kn : Int) ∨ ¬ arC OL z 3 1 0 1 := by
    by_cases q : 15 ≤ kn ∧ kn < 18
    · exact .inr (.inr fun e => cb ⟨q.1, q.2, e.1⟩)
    · omega
  rw [Y79 n2, Y149 n3]
  exact byG
end jInstr
