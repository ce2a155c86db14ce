/-! instructions: a number by its mark, both sides -/
set_option maxRecDepth 100000
section jNum2
variable {s t u w s1 t1 : jS} {v A H b lo k c a x y d n o j e kd mk m i pt : Int} {l : List Int} {L : List Nat} {NL : List (List Int)} {I : pI} {OL : List pvO} {SL : List pvS} {z : pvS} {zo : pvO} {Q Q' : jS → jS → Int → Prop} {xx : Option (jS × Bool × Int)} {yy : Option (jS × Int)}
/-- the twin's end of a plain number -/
theorem num_st (g : AG u w A H b lo NL I OL SL k z) (hP : oPt (fun _ => False) u w A H) (hM : jf u 37 A 41 = 0 ∧ jf w 41 H 59 = 0) (hG : gdT kd w H L) (h3 : 3 ∉ L) (hk : kS H t w) (hi : fMay (cFd kd.toNat 3) d) (hr : rgJ d) {w2 : jS} (e : w2 = jp (jp w 1000 (H + 169) 3 d) 42 (H + 4) 0 0) : AG u w2 A H b lo NL I OL SL k z ∧ tF H w w2 ∧ nQ kd t A H L j u w2 d := by
  obtain ⟨w1, G1⟩ : ∃ w1, w1 = jp w 1000 (H + 169) 3 d := ⟨_, rfl⟩
  rw [← G1] at e
  obtain ⟨g1, r1, -⟩ := jpF G1
  obtain ⟨g2, r2, -⟩ := jpF e
  have tf : tF H w w2 := (tF.rfl.wr G1 (by omega)).wr e (by omega)
  have fr : ∀ c a j, ¬ (c = 1000 ∧ a = H + 169 ∧ j = 3) → ¬ (c = 42 ∧ a = H + 4) → jf w2 c a j = jf w c a j := fun c a j z1 z2 => by rw [g2 _ _ _ (by omega), g1 _ _ _ (by omega)]
  have qw : opV H w w2 := fun c a i z1 z2 z3 => fr _ _ _ (by omega) (by omega)
  refine ⟨g.scr cFa.rfl opU.rfl tf qw, tf, fun i i0 i1 i3 => ?_, ⟨?_, ?_, fun q => ?_⟩, ?_, ⟨hi, hr⟩, fun e he => ?_, hk.trans qw.ks⟩
  · rw [fr _ _ _ (by omega) (by omega)]; exact hP i i0 i1 id
  · rw [fr _ _ _ (by omega) (by omega), hM.1, hM.2]
  · rw [fr _ _ _ (by omega) (by omega), hM.2]; decide
  · rw [fr _ _ _ (by omega) (by omega), hM.2] at q; exact absurd q (by decide)
  · rw [g2 _ _ _ (by omega), r1]
  · have : ¬ e = 3 := fun e' => h3 (e' ▸ he)
    rw [fr _ _ _ (by omega) (by omega)]; exact hG e he
theorem num2 (h : AG s t A H b lo NL I OL SL k z) (hR : oRt s t A H m) (hG : gdT kd t H L) (hz : jf t 41 H 59 = 0) (h3 : 3 ∉ L) (k0 : 0 ≤ kd) (k1 : kd < 75) (hp : (cKd kd.toNat).1 = pt) (hpt : ¬ (pt = 5 ∨ 7 ≤ pt ∧ pt ≤ 9)) (hcl : ¬ (cFd kd.toNat 3).1 = 0) (j0 : 0 ≤ j) (j1 : j < z.2.2.2.1) (hs : (tO OL (z.2.2.1 + j)).1 = 0 ∨ (tO OL (z.2.2.1 + j)).1 = 2) (hmk : mkTw kd (tO OL (z.2.2.1 + j)).2.2.1) : stO s t A H b lo NL I OL SL k z (m_X33_immediate s A kd pt j) (m_X37_takeNumber t H kd (z.2.2.1 + j)) fun u w d => nQ kd t A H L j u w d := by
  obtain ⟨o1, o2, o3, og, o5⟩ := h.1.op j0 j1
  have st0 := h.1.st0
  have mb := og.2.2.2.2.1
  have tb : ∀ k : Nat, k < 75 → (k = 0 ∨ k = 1 ∨ k = 3 ∨ 10 ≤ k ∧ k ≤ 23 → ((cKd k).1 = 4 ↔ 15 ≤ k ∧ k ≤ 17)) := by decide +kernel
  have hst := tb kd.toNat (by omega)
  rw [hp] at hst
  obtain ⟨-, c6, cl⟩ := cl_3 kd.toNat (by omega)
  have fimm := fun v => fimm_k v kd.toNat (by omega) hcl
  rw [em_X33_immediate, em_X37_takeNumber]; unfold dm_X33_immediate dm_X37_takeNumber
  rw [h.cop j0 j1 (by decide) (by decide), Option.bind_some, y_markO h j0 j1, Option.bind_some]
  have q2 : opQ1 (tO OL (z.2.2.1 + j)) 2 = (tO OL (z.2.2.1 + j)).2.2.1 := rfl
  rw [q2]
  generalize hmm : (tO OL (z.2.2.1 + j)).2.2.1 = mk at *
  have e33 : (if pt = 5 then u_X33_immediate_33 s A kd j else if pt < 7 then u_X33_immediate_90 s A kd pt j mk else if 9 < pt then u_X33_immediate_90 s A kd pt j mk else u_X33_immediate_33 s A kd j) = u_X33_immediate_90 s A kd pt j mk := by
    rw [if_neg (by omega)]
    by_cases c : pt < 7
    · rw [if_pos c]
    · rw [if_neg c, if_pos (by omega)]
  rw [e33, eu_X33_immediate_90]; unfold du_X33_immediate_90
  refine (value3 h j0 j1 hs).bind (fun _ _ => rfl) (fun r => tw0 r) fun u w v g c1 c2 q => ?_
  dsimp only
  rw [jth_ff, if_neg n10]
  obtain ⟨d1, d2, d4, d5⟩ := q.op hR hG hz
  obtain ⟨-, -, hE, hv, -⟩ := q
  have hE2 := hE
  obtain ⟨x52, x53, x54⟩ := hE
  have hin : jin (jf w 41 H 52) := hv.1
  obtain ⟨w1, g1t⟩ : ∃ σ : Int, (σ = if 15 ≤ kd ∧ kd ≤ 17 then 1 else 0) := ⟨_, rfl⟩
  have et : (if kd < 15 then u_X37_takeNumber_32 w H kd (z.2.2.1 + j) mk else if 17 < kd then u_X37_takeNumber_32 w H kd (z.2.2.1 + j) mk else u_X37_takeNumber_33 w H kd (z.2.2.1 + j) mk 1) = u_X37_takeNumber_33 w H kd (z.2.2.1 + j) mk w1 := by
    rw [eu_X37_takeNumber_32]; unfold du_X37_takeNumber_32
    by_cases c : 15 ≤ kd ∧ kd ≤ 17
    · rw [if_pos c] at g1t; rw [if_neg (by omega), if_neg (by omega), g1t]
    · rw [if_neg c] at g1t
      rw [g1t]
      by_cases c2 : kd < 15
      · rw [if_pos c2]
      · rw [if_neg c2, if_pos (by omega)]
  rw [et, eu_X37_takeNumber_33, jlt_in (by omega) (by omega), Option.bind_some, x53, jlt_in (by omega) (by omega), x54]; unfold du_X37_takeNumber_33
  rw [placedI]
  simp only [Option.bind_some]
  generalize hn : jf w 41 H 52 = nn at *
  have rel := fun v v0 v1 f0 => rel2 (v := v) g d1 hE2 j0 (by omega) (by rw [hn]; exact hv) v0 v1 d4 h3 d5 f0
  have B : ∀ {F : jS × Bool × Int → Option (jS × Bool × Int)} {Q}, (∀ u d, F (u, true, d) = some (u, true, d)) → stO u w A H b lo NL I OL SL k z ((m_X33_needAt u A 0 14 j).bind F) (u_X37_takeNumber_56 w H (z.2.2.1 + j)) Q := fun hF => by
    rw [eu_X37_takeNumber_56]; unfold du_X37_takeNumber_56
    exact .badAt g (by decide) j0 j1 hF (fun r => tw0 r)
  have e114 : u_X37_takeNumber_114 w H (z.2.2.1 + j) = u_X37_takeNumber_56 w H (z.2.2.1 + j) := by rw [eu_X37_takeNumber_114, eu_X37_takeNumber_56]; rfl
  have B2 : ∀ {F : jS × Bool × Int → Option (jS × Bool × Int)} {Q}, (∀ u d, F (u, true, d) = some (u, true, d)) → stO u w A H b lo NL I OL SL k z ((m_X33_needAt u A 0 14 j).bind F) ((m_X37_placeOf w H (z.2.2.1 + j)).bind fun q2 => (m_X37_fail_2 q2.1 H 14 q2.2).bind fun q3 => some (q3.1, Wz q3.2)) Q := fun hF => .badAt g (by decide) j0 j1 hF tw1
  have e172 : ¬ (jf w 41 H 53 = -1 ∧ jf w 41 H 54 = -1) → u_X37_takeNumber_172 w H kd (z.2.2.1 + j) mk = (m_X37_placeOf w H (z.2.2.1 + j)).bind fun q2 => (m_X37_fail_2 q2.1 H 14 q2.2).bind fun q3 => some (q3.1, Wz q3.2) := fun c => by
    rw [eu_X37_takeNumber_172]; unfold du_X37_takeNumber_172
    rw [plainI, Option.bind_some, if0 c, if_pos rfl]
  have bad : stO u w A H b lo NL I OL SL k z (u_X33_immediate_225 u A pt j mk 0 0 A) (u_X37_takeNumber_56 w H (z.2.2.1 + j)) (fun u w d => nQ kd t A H L j u w d) ∧ stO u w A H b lo NL I OL SL k z (u_X33_immediate_225 u A pt j mk 0 0 A) ((m_X37_placeOf w H (z.2.2.1 + j)).bind fun q2 => (m_X37_fail_2 q2.1 H 14 q2.2).bind fun q3 => some (q3.1, Wz q3.2)) (fun u w d => nQ kd t A H L j u w d) ∧ stO u w A H b lo NL I OL SL k z (u_X33_immediate_225 u A pt j mk 1 0 A) (u_X37_takeNumber_56 w H (z.2.2.1 + j)) (fun u w d => nQ kd t A H L j u w d) := by
    rw [eu_X33_immediate_225]; unfold du_X33_immediate_225
    exact ⟨B fun _ _ => rfl, B2 fun _ _ => rfl, B fun _ _ => rfl⟩
  have u229 : ∀ {d}, pHas kd.toNat 3 = true ∧ pImm kd.toNat d = true → ∃ w2, u_X37_takeNumber_229 w H kd (z.2.2.1 + j) d 3 (H + 169) = some (w2, 1) ∧ AG u w2 A H b lo NL I OL SL k z ∧ tF H w w2 ∧ nQ kd t A H L j u w2 d := fun {d} c => by
    have hi := (fimm d).mpr c.2
    obtain ⟨r1, r2, r3⟩ := num_st (j := j) g d1 d2 d4 h3 d5 hi (may_rg hi cl) rfl
    refine ⟨_, ?_, r1, r2, r3⟩
    rw [eu_X37_takeNumber_229]; unfold du_X37_takeNumber_229
    obtain ⟨w1, G1⟩ : ∃ w1, w1 = jp w 1000 (H + 169) 3 d := ⟨_, rfl⟩
    obtain ⟨g1, r1, -⟩ := jpF G1
    have g' : AG u w1 A H b lo NL I OL SL k z := g.scr cFa.rfl opU.rfl (tF.rfl.wr G1 (by omega)) (fun c a i z1 z2 z3 => g1 _ _ _ (by omega))
    rw [jst_in (by omega) (by omega), Option.bind_some, ← G1, jlt_in (by omega) (by omega), Option.bind_some, r1, (t_may g'.cx.2 kd d).1 ⟨k0, k1, c⟩, Option.bind_some, if_neg n10, Wz_1]
  have n229 : ∀ {d} {F : jS × Bool × Int → Option (jS × Bool × Int)} {Q}, ¬ (pHas kd.toNat 3 = true ∧ pImm kd.toNat d = true) → (∀ u d, F (u, true, d) = some (u, true, d)) → stO u w A H b lo NL I OL SL k z ((m_X33_needAt u A 0 15 j).bind F) (u_X37_takeNumber_229 w H kd (z.2.2.1 + j) d 3 (H + 169)) Q := fun {d F Q} c hF => by
    rw [eu_X37_takeNumber_229]; unfold du_X37_takeNumber_229
    obtain ⟨w1, G1⟩ : ∃ w1, w1 = jp w 1000 (H + 169) 3 d := ⟨_, rfl⟩
    obtain ⟨g1, r1, -⟩ := jpF G1
    have tf1 : tF H w w1 := tF.rfl.wr G1 (by omega)
    have g' : AG u w1 A H b lo NL I OL SL k z := g.scr cFa.rfl opU.rfl tf1 (fun c a i z1 z2 z3 => g1 _ _ _ (by omega))
    obtain ⟨w2, G2⟩ : ∃ w2, w2 = jp w1 42 (H + 4) 0 0 := ⟨_, rfl⟩
    obtain ⟨g2, r2, -⟩ := jpF G2
    have tf2 : tF H w1 w2 := tF.rfl.wr G2 (by omega)
    have g'' : AG u w2 A H b lo NL I OL SL k z := g'.scr cFa.rfl opU.rfl tf2 (fun c a i z1 z2 z3 => g2 _ _ _ (by omega))
    rw [jst_in (by omega) (by omega), Option.bind_some, ← G1, jlt_in (by omega) (by omega), Option.bind_some, r1, (t_may g'.cx.2 kd d).2 (fun e => c e.2.2), Option.bind_some, if_pos rfl, ← G2]
    exact (stO.badAt g'' (by decide) j0 j1 hF (fun r => tw0 r)).pre cFa.rfl (tf1.trans tf2)
  have hcm := fun v => c_may g.wa kd v
  have fin : ∀ κ, 0 < κ → κ ≤ 60 → ¬ mk = 0 → ∃ u1 w1, u_X33_immediate_339 u κ A = some (u1, false, 0) ∧ m_X37_relocated w H κ = some (w1, 1) ∧ stO u w A H b lo NL I OL SL k z (some (u1, false, 0)) (some (w1, 1)) fun u w d => nQ kd t A H L j u w d := fun κ v0 v1 c => by
    obtain ⟨u1, w1, e1, e2, e3, e4, e5, e6⟩ := rel κ v0 v1 (may_0 (c6 (by unfold mkTw at hmk; omega)))
    refine ⟨u1, w1, ?_, e2, (stO.ret (d := 0) e3 e6).pre e4 e5⟩
    rw [eu_X33_immediate_339]; unfold du_X33_immediate_339
    simp only [jls]
    rw [e1]
  have mk4 : mk = 0 ∨ mk = 1 ∨ mk = 2 ∨ mk = 3 ∨ mk = 4 := by omega
  by_cases pl : jf w 41 H 53 = -1 ∧ jf w 41 H 54 = -1
  · -- a plain number
    rw [if_pos pl.1, if_pos pl.2, eu_X33_immediate_120]; unfold du_X33_immediate_120
    rw [if0 (fun e : ¬ jf w 41 H 53 = -1 ∧ jf w 41 H 54 = -1 => e.1 pl.1)]
    have e172 : u_X37_takeNumber_172 w H kd (z.2.2.1 + j) mk = if mk = 0 then u_X37_takeNumber_229 w H kd (z.2.2.1 + j) nn 3 (H + 169) else if mk = 1 then u_X37_takeNumber_229 w H kd (z.2.2.1 + j) (I_and (I_shr (W32 (nn + 2048)) 12) 1048575) 3 (H + 169) else u_X37_takeNumber_229 w H kd (z.2.2.1 + j) (I_shr (I_shl nn 20) 20) 3 (H + 169) := by
      rw [eu_X37_takeNumber_172]; unfold du_X37_takeNumber_172
      rw [plainI, Option.bind_some, if1 pl, if_neg n10, hn, e_X37_highOf, e_X37_lowOf, Option.bind_some, Option.bind_some]
    have tb3 : ∀ k : Nat, k < 75 → k = 0 ∨ k = 1 ∨ k = 3 ∨ 10 ≤ k ∧ k ≤ 23 → pHas k 3 = true := by decide +kernel
    have tb3 := tb3 kd.toNat (by omega)
    rw [e172]
    rcases mk4 with rfl | rfl | rfl | rfl | rfl
    · rw [if_pos rfl, if_pos rfl, if_neg (by decide), if_neg (by decide), if_neg (by decide), needAtOk n10]
      dsimp only
      rw [jth_ff, jlt_in (by omega) (by omega), x52, Option.bind_some]
      by_cases c : pHas kd.toNat 3 = true ∧ pImm kd.toNat nn = true
      · rw [(hcm nn).1 ⟨k0, k1, c⟩, Option.bind_some, needAtOk n10]
        dsimp only
        obtain ⟨w2, e1, e2, e3, e4⟩ := u229 c
        rw [jth_ff, jlt_in (by omega) (by omega), x52, Option.bind_some, e1]
        exact (stO.ret (d := nn) e2 e4).pre cFa.rfl e3
      · rw [(hcm nn).2 fun e => c e.2.2, Option.bind_some]
        exact n229 c fun _ _ => rfl
    · rw [if_neg (by decide), if_neg n10, if_pos (by decide), if_neg (by decide), if_neg (by decide), if_pos (by decide), if_pos rfl, if_neg (by decide), if_pos rfl, eu_X33_immediate_225]; unfold du_X33_immediate_225
      rw [needAtOk n10]
      dsimp only
      have he := hi_eq (x := W32 (nn + 2048)) (W32_lo _)
      obtain ⟨w2, e1, e2, e3, e4⟩ := u229 (d := I_and (I_shr (W32 (nn + 2048)) 12) 1048575) ⟨tb3 (by unfold mkTw at hmk; omega), imm_hi (by omega) (by omega) k0 (by unfold mkTw at hmk; omega)⟩
      rw [jth_ff, if_neg n10, if_pos rfl, jlt_in (by omega) (by omega), x52, Option.bind_some, he.1, e1]
      exact (stO.ret (d := _) e2 e4).pre cFa.rfl e3
    · rw [if_neg (by decide), if_neg n10, if_pos (by decide), if_neg (by decide), if_neg (by decide), if_pos (by decide), if_pos rfl, if_neg (by decide), if_neg (by decide), eu_X33_immediate_225]; unfold du_X33_immediate_225
      rw [needAtOk n10]
      dsimp only
      have he := lo_in (x := nn)
      obtain ⟨w2, e1, e2, e3, e4⟩ := u229 (d := I_shr (I_shl nn 20) 20) ⟨tb3 (by unfold mkTw at hmk; omega), imm_lo he.1 he.2 (by unfold mkTw at hmk; omega)⟩
      rw [jth_ff, if_neg n10, if_neg (by decide), jlt_in (by omega) (by omega), x52, Option.bind_some, e1]
      exact (stO.ret (d := _) e2 e4).pre cFa.rfl e3
    · rw [if_neg (by decide), if_neg n10, if_neg (by decide), if_pos rfl, if_pos rfl]; exact bad.2.2
    · rw [if_neg (by decide), if_neg n10, if_neg (by decide), if_neg (by decide), if_pos rfl, if_pos rfl, e114]; exact bad.2.2
  -- not plain
  have e120 : (if jf w 41 H 53 = -1 then if jf w 41 H 54 = -1 then u_X33_immediate_120 u A kd pt j mk 1 else u_X33_immediate_119 u A kd pt j mk else u_X33_immediate_119 u A kd pt j mk) = u_X33_immediate_120 u A kd pt j mk 0 := by
    rw [eu_X33_immediate_119]; unfold du_X33_immediate_119
    by_cases c : jf w 41 H 53 = -1
    · rw [if_pos c, if_neg fun e => pl ⟨c, e⟩]
    · rw [if_neg c]
  rw [e120, eu_X33_immediate_120]; unfold du_X33_immediate_120
  by_cases m0 : mk = 0
  · subst m0
    rw [if_pos rfl, if_neg (by decide), if_neg (by decide), if_neg (by decide), e172 pl]
    exact B2 fun _ _ => rfl
  rw [if_neg m0, if_pos rfl, jlt_in (by omega) (by omega), x53, Option.bind_some, jlt_in (by omega) (by omega), x54, eu_X33_immediate_224, eu_X33_immediate_220]; unfold du_X33_immediate_224 du_X33_immediate_220
  by_cases cp : ¬ jf w 41 H 53 = -1 ∧ jf w 41 H 54 = -1
  rotate_left
  · -- not placed
    have ec : (if jf w 41 H 53 = -1 then u_X33_immediate_225 u A pt j mk 0 0 A else (some (jf w 41 H 54)).bind fun v7 => if v7 = -1 then if mk = 4 then (jlt u 1000 (A + 20) 800 j).bind fun v8 => if v8 = 0 then u_X33_immediate_225 u A pt j mk 0 1 A else u_X33_immediate_225 u A pt j mk 0 0 A else u_X33_immediate_225 u A pt j mk 0 1 A else u_X33_immediate_225 u A pt j mk 0 0 A) = u_X33_immediate_225 u A pt j mk 0 0 A := by
      by_cases c : jf w 41 H 53 = -1
      · rw [if_pos c]
      · rw [if_neg c, Option.bind_some, if_neg fun e => cp ⟨c, e⟩]
    rw [ec, if0 cp, if_pos rfl, if_pos rfl, if_pos rfl, e172 pl, e114]
    by_cases c3 : mk = 3
    · rw [if_pos c3]; exact bad.1
    rw [if_neg c3]
    by_cases c4 : mk = 4
    · rw [if_pos c4]; exact bad.1
    rw [if_neg c4, if_pos (by omega)]
    exact bad.2.1
  rw [if_neg cp.1, Option.bind_some, if_pos cp.2, if1 cp, if_neg n10, if_neg n10, if_neg n10, jlt_in (by omega) (by omega), x52, Option.bind_some]
  have e281 : u_X33_immediate_225 u A pt j mk 0 1 A = u_X33_immediate_281 u A mk (if pt = 4 then 1 else 0) := by
    rw [eu_X33_immediate_225]; unfold du_X33_immediate_225
    rw [needAtOk n10]
    dsimp only
    rw [jth_ff, if_pos rfl]
    by_cases c : pt = 4
    · rw [if_pos c, if_pos c]
    · rw [if_neg c, if_neg c]
  rw [e281, eu_X33_immediate_281, e114]; unfold du_X33_immediate_281
  have es : (if pt = 4 then (1 : Int) else 0) = w1 := by
    rw [g1t]
    have : pt = 4 ↔ 15 ≤ kd ∧ kd ≤ 17 := by unfold mkTw at hmk; omega
    by_cases c : pt = 4
    · rw [if_pos c, if_pos (this.mp c)]
    · rw [if_neg c, if_neg fun e => c (this.mpr e)]
  rw [es]
  have u108 : ∀ κ w1, m_X37_relocated w H κ = some (w1, 1) → u_X37_takeNumber_108 w H (z.2.2.1 + j) κ H = some (w1, 1) := fun κ w1 e => by
    rw [eu_X37_takeNumber_108]; unfold du_X37_takeNumber_108
    rw [e, Option.bind_some, if_neg n10, Wz_1]
  have u168 : ∀ κ w1, m_X37_relocated w H κ = some (w1, 1) → u_X37_takeNumber_168 w κ H = some (w1, 1) := fun κ w1 e => by
    rw [eu_X37_takeNumber_168]; unfold du_X37_takeNumber_168
    rw [e, Option.bind_some]
    dsimp only
    rw [Wz_1]
  rcases mk4 with rfl | rfl | rfl | rfl | rfl
  · exact absurd rfl m0
  · obtain ⟨u1, w2, e1, e2, e3⟩ := fin 26 (by omega) (by omega) m0
    rw [if_pos rfl, if_neg (show ¬ (1 : Int) = 3 by decide), if_neg (show ¬ (1 : Int) = 4 by decide), if_pos (show (0 : Int) < 1 by decide), if_pos rfl, e1, u168 _ _ e2]
    exact e3
  · obtain ⟨u1, w2, e1, e2, e3⟩ := fin 27 (by omega) (by omega) m0
    obtain ⟨u3, w4, i1, i2, i3⟩ := fin 28 (by omega) (by omega) m0
    rw [if_neg (show ¬ (2 : Int) = 1 by decide), if_neg (show ¬ (2 : Int) = 3 by decide), if_pos (show (2 : Int) = 2 from rfl), if_neg (show ¬ (2 : Int) = 3 by decide), if_neg (show ¬ (2 : Int) = 4 by decide), if_pos (show (0 : Int) < 2 by decide), if_neg (show ¬ (2 : Int) = 1 by decide), if_neg (show ¬ (2 : Int) = 4 by decide), e1, i1, u168 _ _ e2, u168 _ _ i2]
    by_cases c : w1 = 0
    · rw [if_pos c, if_pos c]; exact e3
    · rw [if_neg c, if_neg c]; exact i3
  · obtain ⟨u1, w2, e1, e2, e3⟩ := fin 23 (by omega) (by omega) m0
    rw [if_neg (show ¬ (3 : Int) = 1 by decide), if_pos rfl, if_pos rfl, e1, e2, Option.bind_some, if_neg n10, Wz_1]
    exact e3
  · obtain ⟨u1, w2, e1, e2, e3⟩ := fin 24 (by omega) (by omega) m0
    obtain ⟨u3, w4, i1, i2, i3⟩ := fin 25 (by omega) (by omega) m0
    rw [if_pos (show (4 : Int) = 4 from rfl), if_neg (show ¬ (4 : Int) = 1 by decide), if_neg (show ¬ (4 : Int) = 3 by decide), if_neg (show ¬ (4 : Int) = 2 by decide), e1, i1, u108 _ _ e2, u108 _ _ i2]
    by_cases c0 : nn = 0
    · rw [if_pos c0, if_pos c0]
      by_cases c : w1 = 0
      · rw [if_pos c, if_pos c]; exact e3
      · rw [if_neg c, if_neg c]; exact i3
    · rw [if_neg c0, if_neg c0]; exact bad.1
end jNum2
