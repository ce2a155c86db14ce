/-! the linker: relocations of kind 26, both sides *-/
set_option maxRecDepth 100000
section jLuq
variable {s t u w' s' t' t1 : jS} {a b k m mm n nn o p q v l x c f g i j A H C K S X P Q V D rr n' sec w r how val q0 kd wc wt sz : Int} {O : Int → Int → Int → Int → Int} {d e z y : Int → Int → Int} {G B : Int → Int}
/-- a piece that has its own relocation -/
theorem LZD.own (h : LZD C H S O s t e d z G) (k0 : 0 ≤ k) (k1 : k < d 0 1) (hm : mvK d k) (hz : z 2 k = 300 * x + j) (hx : z 3 k = x) : (d 12 (d 8 k) = -1 ∨ lT S O e d z G (kyO O e (100 * x + O x 5 j 3)) (d 12 (d 8 k)) (d 13 (d 8 k))) ∧ d 9 k = O x 5 j 4 ∧ (d 5 k = 2 → d 10 k = 1 → ¬ uW (O x) (z 0 k) / 128 % 32 = 0 ∧ ¬ uW (O x) (z 0 k) / 128 % 32 = 2) ∧ okT (O x) j := by
  have := (h.2.2.2.2.1.2.2 k k0 k1).2 hm
  rw [hx, hz, show 300 * x + j - 300 * x = j by omega] at this
  exact this
/-- what no room is left for is near -/
theorem LZD.near0 (h : LZD C H S O s t e d z G) (k0 : 0 ≤ k) (k1 : k < d 0 1) (hm : mvK d k) (h1 : ¬ d 5 k = 1) (h0 : d 15 k = 0) : ¬ d 12 (d 8 k) = -1 ∧ (nrV (aimK d k) ∨ nrV (aimK d k - gpK d)) := by
  have nt := h.2.2.2.2.2.2.1.1 k k0 k1
  have nl : ¬ d 15 k < lstK d k := fun q => nt ⟨hm, q⟩
  unfold lstK at nl
  by_cases c : d 12 (d 8 k) = -1
  · rw [if_pos c] at nl
    unfold grK at nl
    rw [if_neg h1] at nl; omega
  · rw [if_neg c, if_neg h1] at nl
    refine ⟨c, ?_⟩
    by_cases c2 : nrV (aimK d k) ∨ nrV (aimK d k - gpK d)
    · exact c2
    · rw [if_neg c2] at nl
      split at nl <;> omega
theorem rlS.ob (h : rlS C H S O s t e d z G) (x0 : 0 ≤ x) (x1 : x < 6) (hS : sIn S x) : cOb s (fAt C x + 614) (O x) ∧ jTt s 34 (fAt C x + 614) := by
  obtain ⟨hO, -⟩ := h.1.2.2.2.2.2.1.1.2.2.1 x x0 x1 hS
  exact ⟨hO, (T33 (h.1.2.2.2.2.2.1.1.2.2.2.1 x x0 x1)).2.2.1⟩
theorem x_upper (h : rmS C H S O s t e d z G x j 0 A K P) (wk : wkR C H O s t d z x j A K P m) (hb : jBd s 1 6) (x0 : 0 ≤ x) (x1 : x < 6) (hS : sIn S x) (j0 : 0 ≤ j) (j1 : j < O x 2 2 0) (hk : O x 5 j 2 = 26) : ∃ r q, relT s (C + 4275) (rlA (fAt C x + 614) j) mm 0 = some r ∧ u_X37_relocate_128 t H (300 * x + j) (O x 5 j 2) q0 = some q ∧ rwE C H s t 0 A m r q := by
  obtain ⟨val, u, vj, vl, R, By, hm, ⟨c39, c40⟩, ec, et⟩ := x_relV (m := mm) h x0 x1 hS j0 j1 (by omega) (by omega)
  obtain ⟨⟨r0, r1⟩, ⟨l0, l1', l2', l3', l4'⟩, hut, vo, g, j3⟩ := hm.1.rl x0 x1 hS j0 j1
  obtain ⟨-, -, ad⟩ := rl_tgt (S := S) vo g x0 x1 hS j0 j1 (by omega) (by omega)
  obtain ⟨-, l1, l2, l3, -⟩ := rel_lo vo g j0 j1
  have g3 := (g.2.2 j j0 j1).2.2.2
  have v0 := vj.1
  have v1 := vj.2
  have a0 := ad.1
  have a1 := ad.2
  obtain ⟨V, hV⟩ : ∃ V, V = val + O x 5 j 4 := ⟨_, rfl⟩
  rw [← hV] at c40 et
  have kw : kW (O x 5 j 2) (O x 5 j 4) = 4 := by rw [hk]; rfl
  have wu := wk.rs (u := u) By
  obtain ⟨⟨m0, b0, b1⟩, hP, hw⟩ := id wk
  have hbu := hb.sm R.1
  have eC : relT s (C + 4275) (rlA (fAt C x + 614) j) mm 0 = (m_X35_upper u (C + 4275)).bind fun q17 => jth q17.2.1 (some (q17.1, true, q17.2.2)) (some (q17.1, false, 0)) := by
    rw [ec]; unfold relK
    rw [hk]; simp only [eq_self, and_false, false_and, and_true, true_and, if_true, if_false, reduceIte, Int.reduceEq, Int.reduceLT, Int.reduceLE, Int.reduceNeg, not_false_eq_true, Option.bind_some, jls]
  have eT : (jf t 41 H 114 = -1 ∨ ¬ jf t 41 H 114 = -1 ∧ ∃ sz, jlt t 1000 (H + 93 + 13) 256 (jf t 41 H 114) = some sz ∧ ¬ sz = 0) → u_X37_relocate_128 t H (300 * x + j) (O x 5 j 2) q0 = u_X37_relocate_302 t H (300 * x + j) (O x 5 j 2) q0 V := fun hK2 => by
    rw [et, if_neg (by omega), t_258 (by omega) (by omega), t_302 (by omega) hK2]
  -- a word of four bytes
  have go : m = 4 → ((K = -1) ∨ ¬ K = -1 ∧ 0 ≤ K ∧ K < d 0 1 ∧ m = szK d K (plK d K)) → ∃ r q, u_X35_upper_16 u (C + 4275) 4 = some r ∧ u_X37_relocate_128 t H (300 * x + j) (O x 5 j 2) q0 = some q ∧ rwE C H u t 0 A m r q ∧ jth r.2.1 (some (r.1, true, r.2.2)) (some (r.1, false, (0 : Int))) = some r := fun m4 hK => by
    obtain ⟨wc, wt, wg, wF⟩ := x_wdR (how := 26) hm wu x0 x1 hS j0 j1 (by omega) (by omega) (by decide) (by omega) (.inl m4)
    obtain ⟨r', q, e1, e2, hq⟩ := x_wnum (how := 26) (D := V) hm.1 hbu hm.2.1 x0 x1 j0 j3 b0 (by omega) (by unfold hwK; omega) wg ⟨by omega, by omega⟩ (fun w => u_X35_upper_29 w (C + 4275) 4) (by
      rw [eu_X35_upper_29]; unfold du_X35_upper_29 cNum
      by_cases c : -2147483648 ≤ V ∧ V ≤ 2147483647
      · rw [c40, c_isIntR, if_pos c, Option.bind_some, Option.bind_some, c_need1, Option.bind_some, Option.bind_some, jth_ff, if_pos rfl]
        dsimp only
        rw [c40]; rfl
      · obtain ⟨u', e', w', e3, -⟩ := x_no (m := 4) (f := 8) hm.1 hbu hm.2.1 x0 x1 j0 j3 (by decide)
        rw [c40, c_isIntR, if_neg c, Option.bind_some, Option.bind_some, e3, Option.bind_some, Option.bind_some]
        rfl) (fun t1 => (m_X37_isInt t1 V).bind fun v9 =>
      if v9 = 0 then
        (m_X37_wrong t1 H 8 (300 * x + j)).bind fun q10 =>
        some (q10.1, Wz q10.2)
      else
        if (jf t1 41 H 114) = (-1) then
          u_X37_relocate_599 t1 H (300 * x + j) V wt
        else
          (jlt t1 1000 ((H + 93) + 13) 256 (jf t1 41 H 114)).bind fun v11 =>
          if v11 = 2 then
            (m_X38_part t1 (H + 4) wt 0).bind fun q12 =>
            (m_X37_high q12.1 V).bind fun v13 =>
            (m_X37_formed q12.1 H (300 * x + j) 56 q12.2 0 0 v13).bind fun q14 =>
            some (q14.1, Wz q14.2)
          else
            u_X37_relocate_599 t1 H (300 * x + j) V wt) fun t1 w1 => by
      have e599 : (if (jf t1 41 H 114) = (-1) then
          u_X37_relocate_599 t1 H (300 * x + j) V wt
        else
          (jlt t1 1000 ((H + 93) + 13) 256 (jf t1 41 H 114)).bind fun v11 =>
          if v11 = 2 then
            (m_X38_part t1 (H + 4) wt 0).bind fun q12 =>
            (m_X37_high q12.1 V).bind fun v13 =>
            (m_X37_formed q12.1 H (300 * x + j) 56 q12.2 0 0 v13).bind fun q14 =>
            some (q14.1, Wz q14.2)
          else
            u_X37_relocate_599 t1 H (300 * x + j) V wt) = (m_X37_high t1 V).bind fun v7 => (m_X37_fitted t1 H (300 * x + j) (jf t1 41 H 115) wt v7).bind fun q8 => some (q8.1, Wz q8.2) := by
        have h6 := h.rs (u := s) (w' := t1) .rfl (fun _ _ _ _ _ => rfl) w1
        have e9 : u_X37_relocate_599 t1 H (300 * x + j) V wt = (m_X37_high t1 V).bind fun v7 => (m_X37_fitted t1 H (300 * x + j) (jf t1 41 H 115) wt v7).bind fun q8 => some (q8.1, Wz q8.2) := by
          rw [eu_X37_relocate_599]; rfl
        rcases hK with q | ⟨q, q1, q2, q3⟩
        · rw [if_pos (by rw [h6.2.2.2.1]; exact q), e9]
        · rw [if_neg (by rw [h6.2.2.2.1]; exact q), (x_sizeR h6 q1 q2).2, Option.bind_some, if_neg (by omega), e9]
      show (m_X37_isInt t1 V).bind (fun v9 => if v9 = 0 then _ else _) = _
      rw [e599]; rfl
    refine ⟨r', q, ?_, ?_, by rw [m4]; exact hq, hq.id.1⟩
    · rw [eu_X35_upper_16]; unfold du_X35_upper_16
      rw [if_pos rfl, ← e1]
    · have hK2 : jf t 41 H 114 = -1 ∨ ¬ jf t 41 H 114 = -1 ∧ ∃ sz, jlt t 1000 (H + 93 + 13) 256 (jf t 41 H 114) = some sz ∧ ¬ sz = 0 := by
        rcases hK with z1 | ⟨z1, z2, z3, z4⟩
        · exact .inl (by rw [h.2.2.2.1]; exact z1)
        · exact .inr ⟨by rw [h.2.2.2.1]; exact z1, _, (x_sizeR h z2 z3).2, by omega⟩
      rw [eT hK2, eu_X37_relocate_302]; unfold du_X37_relocate_302
      rw [wF, Option.bind_some, hk]
      simp only [eq_self, and_false, false_and, and_true, true_and, if_true, if_false, reduceIte, Int.reduceEq, Int.reduceLT, Int.reduceLE, Int.reduceNeg, not_false_eq_true, Option.bind_some, jls]
      exact e2
  have e29 : ∀ y, ¬ y = 4 → ¬ y = 2 → -2147483648 ≤ V ∧ V ≤ 2147483647 → u_X35_upper_16 u (C + 4275) y = some (u, false, 0) := fun y y4 y2 c => by
    rw [eu_X35_upper_16]; unfold du_X35_upper_16
    rw [if_neg y4, eu_X35_upper_29]; unfold du_X35_upper_29
    rw [c40, c_isIntR, Option.bind_some, if_pos c, c_need1, Option.bind_some, jth_ff]
    dsimp only
    rw [if_neg y4, if_neg y2]
  rcases hw with ⟨z1, z2, -⟩ | ⟨z1, zz, zx, z4, z5, z6, z7, z8, tk, z9⟩
  · obtain ⟨r, q, e1, e2, hq, hid⟩ := go (by omega) (.inl z1)
    refine ⟨r, q, ?_, e2, hq.rs R By⟩
    rw [eC, em_X35_upper]; unfold dm_X35_upper
    rw [hm.2.2.1.1, if_pos z1, e1, Option.bind_some, hid]
  · have d5 : d 5 K = 2 := by rw [z6, hk]; rfl
    have hmv : mvK d K := .inr (.inl d5)
    obtain ⟨e7, sz⟩ := h.1.1.size z1.1 z1.2 hmv
    obtain ⟨o1, o2, o3, o4⟩ := h.1.1.own z1.1 z1.2 hmv zz zx
    have g4 : grK d K = 4 := by unfold grK; rw [if_neg (by omega)]
    have e : m_X35_upper u (C + 4275) = u_X35_upper_16 u (C + 4275) m := by
      rw [em_X35_upper]; unfold dm_X35_upper
      rw [hm.2.2.1.1, if_neg (by omega), (x_sizeR hm z1.1 z1.2).1, Option.bind_some, ← z7]
    by_cases c4 : m = 4
    · obtain ⟨r, q, e1, e2, hq, hid⟩ := go c4 (.inr ⟨by omega, z1.1, z1.2, z7⟩)
      refine ⟨r, q, ?_, e2, hq.rs R By⟩
      rw [eC, e, c4, e1, Option.bind_some, hid]
    by_cases c0 : m = 0
    · obtain ⟨n1, n2⟩ := h.1.1.near0 z1.1 z1.2 hmv (by omega) (by omega)
      have ob := ouB_lo h.1.1.1 (o := 2) (by decide) (by decide)
      have hVa : V = aimK d K := by
        rcases o1 with q | q
        · exact absurd q n1
        · rw [hV, vl _ _ q, ← o2]; rfl
      have hVi : -2147483648 ≤ V ∧ V ≤ 2147483647 := by
        unfold gpK at n2
        rw [hVa]; omega
      refine ⟨(u, false, 0), (t, 1), ?_, ?_, by rw [c0]; exact rwE.none.rs R By⟩
      · rw [eC, e, e29 m c4 (by omega) hVi]; rfl
      · rw [et, if_neg (by omega), t_258 (by omega) (by omega), eu_X37_relocate_258]; unfold du_X37_relocate_258
        rw [if_neg (by omega), (x_sizeR h z1.1 z1.2).2, h.2.2.2.1, if_neg (by omega), Option.bind_some, if_pos (by omega), Wz_1]
    · have c2 : m = 2 := by omega
      obtain ⟨n1, n2⟩ := o3 d5 (by omega)
      have ok0 : isKd (uW (O x) (O x 5 j 1)) 0 := by unfold okT at o4; rw [if_pos hk] at o4; exact o4
      have s0 : O x 5 j 0 = 0 := tk.1
      rw [s0] at g3
      obtain ⟨D, hD⟩ : ∃ D, D = uW (O x) (O x 5 j 1) / 128 % 32 := ⟨_, rfl⟩
      rw [← z4, ← hD] at n1 n2
      have d0 : 0 ≤ D ∧ D ≤ 31 := by omega
      -- the twin's way
      obtain ⟨kk, t1, -, f2, hk', w1, hR1⟩ := x_kind hm.1.2.1 (v := uW (O x) (O x 5 j 1)) uW_in
      have := isKd_one hk' ok0
      subst this
      obtain ⟨y, f3, y01, y1⟩ := t_takes (t := t1) (how := 26) (r := 0) (by unfold hwK; omega)
      have y1' : ¬ y = 0 := by
        have := y1.mpr (by unfold tkW; omega)
        omega
      have h6 := hm.rs (u := u) (w' := t1) .rfl (fun _ _ _ _ _ => rfl) w1
      have wF := t_wordO (m := 0) hut vo g x0 x1 j0 j1 (by rw [h.2.2.2.1]; omega) h.2.1.2.1 (by decide) (by decide) (by omega)
      rw [Int.add_zero] at wF
      have eT2 : u_X37_relocate_128 t H (300 * x + j) (O x 5 j 2) q0 = (m_X37_isInt t1 V).bind fun v9 =>
          if v9 = 0 then
            (m_X37_wrong t1 H 8 (300 * x + j)).bind fun q10 =>
            some (q10.1, Wz q10.2)
          else
            (m_X38_part t1 (H + 4) (uW (O x) (O x 5 j 1)) 0).bind fun q12 =>
            (m_X37_high q12.1 V).bind fun v13 =>
            (m_X37_formed q12.1 H (300 * x + j) 56 q12.2 0 0 v13).bind fun q14 =>
            some (q14.1, Wz q14.2) := by
        rw [eT (.inr ⟨by rw [h.2.2.2.1]; omega, _, (x_sizeR h z1.1 z1.2).2, by omega⟩), eu_X37_relocate_302]; unfold du_X37_relocate_302
        rw [wF, Option.bind_some, f2, Option.bind_some]
        dsimp only
        rw [hk, f3, Option.bind_some, if_neg y1']
        simp only [eq_self, and_false, false_and, and_true, true_and, if_true, if_false, reduceIte, Int.reduceEq, Int.reduceLT, Int.reduceLE, Int.reduceNeg, not_false_eq_true, Option.bind_some, jls]
        rw [(x_sizeR h6 z1.1 z1.2).2, Option.bind_some, if_pos (show szK d K (plK d K) = 2 by omega), h6.2.2.2.1, if_neg (show ¬ K = -1 by omega)]
      rw [eC, e, eT2, c2, eu_X35_upper_16]; unfold du_X35_upper_16
      rw [if_neg (by decide), eu_X35_upper_29]; unfold du_X35_upper_29
      rw [c40, c_isIntR, t_isIntR, Option.bind_some, Option.bind_some]
      by_cases cI : -2147483648 ≤ V ∧ V ≤ 2147483647
      · rw [if_pos cI, c_need1, Option.bind_some, jth_ff, if_neg n10]
        dsimp only
        rw [if_neg (by decide), if_pos rfl, c40, c_upperOf ⟨by omega, by omega⟩, Option.bind_some]
        obtain ⟨t2, D2, f4, f5, w2⟩ := t_partD hR1 (v := uW (O x) (O x 5 j 1)) uW_in
        have f5 := f5 (.inl ok0)
        rw [← hD] at f5
        subst f5
        rw [f4, Option.bind_some]
        dsimp only
        rw [t_high ⟨by omega, by omega⟩, Option.bind_some]
        have pr : pImm (56 : Int).toNat (hiP V) = true → pGood (56 : Int).toNat (D2, 0, 0, hiP V) = true := fun q => by
          show pGood 56 (D2, 0, 0, hiP V) = true
          have q : pImm 56 (hiP V) = true := q
          unfold pGood
          have h1 : pHas 56 1 = false := by decide +kernel
          have h2 : pHas 56 2 = false := by decide +kernel
          have h0 : pReg 56 0 D2 = true := by
            unfold pReg
            rw [if_neg (by decide +kernel)]
            exact decide_eq_true ⟨d0.1, d0.2, .inr (.inr ⟨n1, fun z => n2 z.2⟩)⟩
          have e0 : p4g (D2, 0, 0, hiP V) 0 = D2 := rfl
          have e3 : p4g (D2, 0, 0, hiP V) 3 = hiP V := rfl
          rw [h1, h2, e0, e3, h0, q]; simp
        have w12 := w1.trans w2
        obtain ⟨F1, F2⟩ := x_formed (r := 56) (v := hiP V) (D := D2) (hm.1.w6 w12) hbu (hm.2.1.w6 w12) x0 x1 j0 j3 b0 (by rw [if_neg (by decide)]; omega) (by decide) (by decide) (by decide) pr d0.1 d0.2
        rw [if_neg (by decide)] at F1 F2
        rw [show C + 4275 + -4274 = C + 1 by omega]
        by_cases cp : pImm (56 : Int).toNat (hiP V) = true
        · obtain ⟨u2, w3, e1, e2, e3, e4, hx⟩ := F1 cp
          obtain ⟨hO, hT⟩ := hm.1.ob x0 x1 hS
          refine ⟨(u2, false, 0), (w3, 1), ?_, ?_, (hx.pre w12).rs R By⟩
          · rw [e1, Option.bind_some, c_need1, Option.bind_some, jth_ff]
            dsimp only
            rw [jix_in (by decide) (by decide), Option.bind_some, hm.2.1.1.1, jix_in x0 (by omega), Option.bind_some, Option.bind_some, hm.2.1.1.2.1, jix_in j0 (by omega), Option.bind_some, show C + 4275 + -4000 + 4041 + 1858 * x + 614 = fAt C x + 614 by unfold fAt; omega, show fAt C x + 614 + 4 + 309 + 1 * j = rlA (fAt C x + 614) j from rfl, l1', c_wordIn hO hT vo l1 (by omega), Option.bind_some, c_d uW_in, ← hD, e2, Option.bind_some, jth_ff]
            dsimp only
            rw [hm.2.1.1.2.2, show C + 4275 + 33 + 1 + 1 * 0 = C + 4275 + 34 + 0 by omega, e3, Option.bind_some]; rfl
          · rw [e4, Option.bind_some, Wz_1]
        · obtain ⟨u2, e', w3, e1, e2, e4, hx⟩ := F2 cp
          refine ⟨(u2, true, e'), (w3, 0), ?_, ?_, (hx.pre w12).rs R By⟩
          · rw [e1, Option.bind_some, e2]; rfl
          · rw [e4, Option.bind_some, Wz_0]
      · obtain ⟨u', e', w', e3, e4, hx⟩ := x_no (m := 2) (f := 8) h6.1 hbu h6.2.1 x0 x1 j0 j3 (by decide)
        rw [if_neg cI, e3, Option.bind_some, if_pos rfl, e4, Option.bind_some, Wz_0]
        exact ⟨(u', true, e'), (w', 0), rfl, rfl, (hx.pre w1).rs R By⟩
end jLuq
