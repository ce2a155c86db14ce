/-! the linker: calls relocated, both sides *-/
set_option maxRecDepth 100000
section jLcb
variable {s t u u1 u2 w w' s' t' t1 : jS} {a b k m mm n nn o p q v l x c f g i j A H C K S X X' P Q V D F M rr n' sec wd r how val q0 kd wc wt sz Y y0 h' : Int} {O : Int → Int → Int → Int → Int} {d e z y : Int → Int → Int} {G B : Int → Int}
theorem hasCall : pHas 2 1 = false ∧ pHas 2 2 = false ∧ pHas 53 0 = false ∧ pHas 53 1 = false ∧ pHas 53 2 = false ∧ pHas 64 0 = false ∧ pHas 64 1 = false ∧ pHas 64 2 = false ∧ pSho 2 0 = false := by decide +kernel
theorem goodCall (hk : kd = 2 ∨ kd = 53 ∨ kd = 64) (d0 : 0 ≤ D) (d1 : D ≤ 31) (hi : pImm kd.toNat v = true) : pGood kd.toNat (D, 0, 0, v) = true := by
  obtain ⟨h1, h2, h3, h4, h5, h6, h7, h8, h9⟩ := hasCall
  have e0 : ∀ v, p4g (D, 0, 0, v) 0 = D := fun _ => rfl
  have e3 : p4g (D, 0, 0, v) 3 = v := rfl
  rcases hk with rfl | rfl | rfl
  · have hi : pImm 2 v = true := hi
    show pGood 2 (D, 0, 0, v) = true
    unfold pGood
    have hr : pReg 2 0 D = true := by
      unfold pReg
      rw [h9]
      exact decide_eq_true ⟨d0, d1, .inl (by decide)⟩
    rw [h1, h2, e0, e3, hr, hi]; simp
  · have hi : pImm 53 v = true := hi
    show pGood 53 (D, 0, 0, v) = true
    unfold pGood
    rw [h3, h4, h5, e3, hi]; simp
  · have hi : pImm 64 v = true := hi
    show pGood 64 (D, 0, 0, v) = true
    unfold pGood
    rw [h6, h7, h8, e3, hi]; simp
/-- a short call -/
theorem x_callS (h : rlS C H S O s t e d z G) (hb : jBd s 1 6) (ha : atR C H s t x j 0 A) (x0 : 0 ≤ x) (x1 : x < 6) (j0 : 0 ≤ j) (j1 : j < 300) (b0 : 0 ≤ A) (hk : kd = 2 ∨ kd = 53 ∨ kd = 64) (hm : m = if kd < 48 then 4 else 2) (b1 : A + m ≤ 4096) (d0 : 0 ≤ D) (d1 : D ≤ 31) : ∃ r q, u_X35_call_197 s (C + 4275) v m D kd = some r ∧ u_X37_call_101 t v D kd (300 * x + j) H = some q ∧ rwE C H s t 0 A m r q := by
  have eC : C + 4275 + -4274 = C + 1 := by omega
  obtain ⟨F1, F2⟩ := x_formed (r := kd) (v := v) (D := D) h hb ha x0 x1 j0 j1 b0 (by rw [← hm]; exact b1) (by omega) (by omega) (by omega) (goodCall hk d0 d1) d0 d1
  rw [eu_X35_call_197, eu_X37_call_101]; unfold du_X35_call_197 du_X37_call_101
  rw [c_isIntR, Option.bind_some, eC]
  have bad : ∀ u e', m_X35_need s (C + 4275) 0 8 = some (u, true, e') → u_X35_call_224 s (C + 4275) v m D kd (C + 4275) = some (u, true, e') := fun u e' hn => by
    rw [eu_X35_call_224]; unfold du_X35_call_224
    rw [eu_X35_call_225]; unfold du_X35_call_225
    rw [hn, Option.bind_some]; rfl
  by_cases c : pImm kd.toNat v = true
  · have iv := immB (k := kd.toNat) (by omega) c
    obtain ⟨u, w, e1, e2, e3, e4, hx⟩ := F1 c
    rw [if_pos (show -2147483648 ≤ v ∧ v ≤ 2147483647 by omega), if_neg n10, e1, Option.bind_some, if_neg n10, eu_X35_call_225]; unfold du_X35_call_225
    rw [c_need1, Option.bind_some, jth_ff, jix_in (by decide) (by decide), Option.bind_some, eC, e2, Option.bind_some, jth_ff]
    dsimp only
    rw [ha.1.2.2, hm, show C + 4275 + 33 + 1 + 1 * 0 = C + 4275 + 34 + 0 by omega, e3, Option.bind_some, e4, Option.bind_some, Wz_1]
    exact ⟨_, _, rfl, rfl, hx⟩
  · obtain ⟨u, e', w, e1, e2, e4, hx⟩ := F2 c
    rw [e4, Option.bind_some, Wz_0]
    refine ⟨(u, true, e'), (w, 0), ?_, rfl, by rw [hm]; exact hx⟩
    by_cases cI : -2147483648 ≤ v ∧ v ≤ 2147483647
    · rw [if_pos cI, if_neg n10, e1, Option.bind_some, if_pos rfl, bad u e' e2]
    · rw [if_neg cI, if_pos rfl, bad u e' e2]
theorem x_callR (h : rmS C H S O s t e d z G x j 0 A K P) (wk : wkR C H O s t d z x j A K P m) (hb : jBd s 1 6) (x0 : 0 ≤ x) (x1 : x < 6) (hS : sIn S x) (j0 : 0 ≤ j) (j1 : j < O x 2 2 0) (hk : O x 5 j 2 = 19) : ∃ r q, relT s (C + 4275) (rlA (fAt C x + 614) j) mm 0 = some r ∧ u_X37_relocate_128 t H (300 * x + j) (O x 5 j 2) q0 = some q ∧ rwE C H s t 0 A m r q := by
  obtain ⟨val, u, vj, -, R, By, hm, ⟨c39, c40⟩, ec, et⟩ := x_relV (m := mm) h x0 x1 hS j0 j1 (by omega) (by omega)
  obtain ⟨-, ⟨-, l1', -⟩, hut, vo, g, j3⟩ := hm.1.rl x0 x1 hS j0 j1
  obtain ⟨-, -, ad⟩ := rl_tgt (S := S) vo g x0 x1 hS j0 j1 (by omega) (by omega)
  obtain ⟨-, l1, l2, l3, -⟩ := rel_lo vo g j0 j1
  have g3 := (g.2.2 j j0 j1).2.2.2
  have v0 := vj.1
  have v1 := vj.2
  have a0 := ad.1
  have a1 := ad.2
  obtain ⟨V, hV⟩ : ∃ V, V = val + O x 5 j 4 := ⟨_, rfl⟩
  rw [← hV] at c40 et
  have kw : kW (O x 5 j 2) (O x 5 j 4) = 8 := by rw [hk]; rfl
  have wu := wk.rs (u := u) By
  obtain ⟨⟨m0, b0, b1⟩, hP, hw⟩ := id wk
  have hbu := hb.sm R.1
  have W : W64 (jf u 39 (C + 4275) 40 - jf u 39 (C + 4275) 41) = V - P := by rw [c40, hm.2.2.1.2, W64_in (by omega) (by omega)]
  have eC : relT s (C + 4275) (rlA (fAt C x + 614) j) mm 0 = (m_X35_call u (C + 4275)).bind fun q17 => jth q17.2.1 (some (q17.1, true, q17.2.2)) (some (q17.1, false, 0)) := by
    rw [ec]; unfold relK
    rw [hk]; simp only [eq_self, and_false, false_and, and_true, true_and, if_true, if_false, reduceIte, Int.reduceEq, Int.reduceLT, Int.reduceLE, Int.reduceNeg, not_false_eq_true, Option.bind_some, jls]
  have eT : u_X37_relocate_128 t H (300 * x + j) (O x 5 j 2) q0 = (m_X37_call t H (300 * x + j) (V - P)).bind fun q1 => some (q1.1, Wz q1.2) := by
    rw [et, if_neg (by omega), t_258 (by omega) (by omega), eu_X37_relocate_258]; unfold du_X37_relocate_258
    rw [if_pos hk, h.2.2.2.2, W64_in (by omega) (by omega)]
  -- the end
  have fin : ∀ y0, (∃ r q, u_X35_call_27 u (C + 4275) (V - P) m = some r ∧ u_X37_call_55 t H (300 * x + j) (V - P) m y0 = some q ∧ rwE C H u t 0 A m r q) → m_X35_call u (C + 4275) = u_X35_call_27 u (C + 4275) (V - P) m → m_X37_call t H (300 * x + j) (V - P) = u_X37_call_55 t H (300 * x + j) (V - P) m y0 → ∃ r q, relT s (C + 4275) (rlA (fAt C x + 614) j) mm 0 = some r ∧ u_X37_relocate_128 t H (300 * x + j) (O x 5 j 2) q0 = some q ∧ rwE C H s t 0 A m r q := fun y0 ⟨r, q, e1, e2, hq⟩ h1 h2 =>
    ⟨r, q, by rw [eC, h1, e1, Option.bind_some, hq.id.1], by rw [eT, h2, e2, Option.bind_some, hq.id.2], hq.rs R By⟩
  rcases hw with ⟨z1, z2, z3⟩ | ⟨z1, zz, zx, z4, z5, z6, z7, z8, tk, z9⟩
  · -- in a plain piece
    have m8 : m = 8 := by omega
    obtain ⟨wc, wt, wg, wF⟩ := x_wdR (how := 19) hm wu x0 x1 hS j0 j1 (by omega) (by omega) (by decide) (by omega) (.inr m8)
    refine fin 0 ?_ ?_ ?_
    · rw [m8]
      refine x_call8 hm hbu x0 x1 hS j0 j1 b0 (by omega) ⟨by omega, by omega⟩ wg wF fun u' w' hO' hut' hT c38 hby => ?_
      exact x_wdP (A := A) (m := 4) (nn := 4) hO' c38 hut' vo x0 x1 j0 j1 (by omega) (by rw [hT, h.2.2.2.1]; exact z1) (by rw [hT]; exact h.2.1.2.2) b0 (by decide) (by decide) (.inr rfl) (by omega) (by omega) (by omega) (by omega) fun k k0 k1 => by
        obtain ⟨q1, q2⟩ := hby (A + 4 + k) (by omega) (by omega)
        have := z3 (4 + k) (by omega) (by omega)
        rw [← Int.add_assoc] at this
        rw [q1, q2, By]; exact this
    · rw [em_X35_call]; unfold dm_X35_call
      simp only [jlet]
      rw [W, hm.2.2.1.1, if_pos z1, m8]
    · rw [em_X37_call]; unfold dm_X37_call
      rw [h.2.2.2.1, if_pos z1, eu_X37_call_25]; unfold du_X37_call_25
      rw [h.2.2.2.1, if_pos z1, m8]
  · -- its own piece
    have d5 : d 5 K = 1 := by rw [z6, hk]; rfl
    have hmv : mvK d K := .inl d5
    obtain ⟨e7, sz⟩ := h.1.1.size z1.1 z1.2 hmv
    obtain ⟨o1, o2, o3, o4⟩ := h.1.1.own z1.1 z1.2 hmv zz zx
    have g8 : grK d K = 8 := by unfold grK; rw [if_pos d5]
    have s0 : O x 5 j 0 = 0 := tk.1
    rw [s0] at g3
    have ok3 : isKd (uW (O x) (O x 5 j 1 + 4)) 3 := by
      unfold okT at o4
      rw [if_neg (by omega)] at o4; exact o4.2 hk
    have e : m_X35_call u (C + 4275) = u_X35_call_27 u (C + 4275) (V - P) m := by
      rw [em_X35_call]; unfold dm_X35_call
      simp only [jlet]
      rw [W, hm.2.2.1.1, if_neg (by omega), (x_sizeR hm z1.1 z1.2).1, Option.bind_some, ← z7]
    have e2 : m_X37_call t H (300 * x + j) (V - P) = u_X37_call_55 t H (300 * x + j) (V - P) m (uW (O x) (O x 5 j 1 + 4)) := by
      obtain ⟨-, t1', -⟩ := t_relr hut j0 j1
      rw [em_X37_call]; unfold dm_X37_call
      rw [(x_sizeR h z1.1 z1.2).2, h.2.2.2.1, if_neg (by omega), Option.bind_some, eu_X37_call_25]; unfold du_X37_call_25
      rw [h.2.2.2.1, if_neg (by omega), jlt_in (by omega) (by omega), Option.bind_some, t1', h.2.1.2.1, W32_in (z := O x 5 j 1 + 4) (by omega) (by omega), t_unitW hut vo x0 x1 (by omega) (by omega), Option.bind_some, ← z7]
    refine fin _ ?_ e e2
    by_cases c8 : m = 8
    · obtain ⟨wc, wt, wg, wF⟩ := x_wdR (how := 19) hm wu x0 x1 hS j0 j1 (by omega) (by omega) (by decide) (by omega) (.inr c8)
      rw [c8]
      refine x_call8 hm hbu x0 x1 hS j0 j1 b0 (by omega) ⟨by omega, by omega⟩ wg wF fun u' w' hO' hut' hT c38 hby => ?_
      obtain ⟨q1, q2⟩ := x_wdO (A := A) (m := 4) (how := 24) hO' c38 hut' vo g x0 x1 j0 j1 (by rw [hT, h.2.2.2.1]; omega) (by rw [hT]; exact h.2.1.2.1) b0 (by decide) (by decide) (by omega) (by omega) (by decide) (fun k k0 k1 => by
        obtain ⟨q1, -⟩ := hby (A + 4 + k) (by omega) (by omega)
        have := z9 hmv (by omega) (4 + k) (by omega) (by omega)
        rw [← Int.add_assoc, ← Int.add_assoc] at this
        rw [q1, By]; exact this)
      exact ⟨_, _, q1, q2⟩
    · obtain ⟨hO, hT⟩ := hm.1.ob x0 x1 hS
      have eL : u_X35_call_27 u (C + 4275) (V - P) m = if m = 4 then u_X35_call_197 u (C + 4275) (V - P) m (uW (O x) (O x 5 j 1 + 4) / 128 % 32) 2 else if uW (O x) (O x 5 j 1 + 4) / 128 % 32 = 1 then u_X35_call_197 u (C + 4275) (V - P) m (uW (O x) (O x 5 j 1 + 4) / 128 % 32) 53 else u_X35_call_197 u (C + 4275) (V - P) m (uW (O x) (O x 5 j 1 + 4) / 128 % 32) 64 := by
        rw [eu_X35_call_27]; unfold du_X35_call_27
        rw [if_neg c8, hm.2.1.1.1, jix_in x0 (by omega), Option.bind_some, hm.2.1.1.2.1, jix_in j0 (by omega), Option.bind_some, show C + 4275 + -4000 + 4041 + 1858 * x + 614 = fAt C x + 614 by unfold fAt; omega, show fAt C x + 614 + 4 + 309 + 1 * j = rlA (fAt C x + 614) j from rfl, l1', W32_in (z := O x 5 j 1 + 4) (by omega) (by omega), c_wordIn hO hT vo (by omega) (by omega), Option.bind_some]
        simp only [jlet]
        rw [c_d uW_in]
      obtain ⟨D, hD⟩ : ∃ D, D = uW (O x) (O x 5 j 1 + 4) / 128 % 32 := ⟨_, rfl⟩
      obtain ⟨t1, D2, f4, f5, w1⟩ := t_partD hm.1.2.1.2.1 (v := uW (O x) (O x 5 j 1 + 4)) uW_in
      have f5 := f5 (.inr ok3)
      rw [← hD] at f5 eL
      have d0 : 0 ≤ D ∧ D ≤ 31 := by omega
      have eR : u_X37_call_55 t H (300 * x + j) (V - P) m (uW (O x) (O x 5 j 1 + 4)) = if m = 4 then u_X37_call_101 t1 (V - P) D 2 (300 * x + j) H else if D = 1 then u_X37_call_101 t1 (V - P) D 53 (300 * x + j) H else u_X37_call_101 t1 (V - P) D 64 (300 * x + j) H := by
        rw [eu_X37_call_55]; unfold du_X37_call_55
        rw [if_pos (by omega), f4, Option.bind_some, f5]
      rw [eL, eR]
      have go : ∀ kd, (kd = 2 ∨ kd = 53 ∨ kd = 64) → m = (if kd < 48 then 4 else 2) → ∃ r q, u_X35_call_197 u (C + 4275) (V - P) m D kd = some r ∧ u_X37_call_101 t1 (V - P) D kd (300 * x + j) H = some q ∧ rwE C H u t 0 A m r q := fun kd hkd hmm => by
        obtain ⟨r, q, e1, e2, hq⟩ := x_callS (v := V - P) (hm.1.w6 w1) hbu (hm.2.1.w6 w1) x0 x1 j0 j3 b0 hkd hmm b1 d0.1 d0.2
        exact ⟨r, q, e1, e2, hq.pre w1⟩
      by_cases c4 : m = 4
      · rw [if_pos c4, if_pos c4]; exact go 2 (.inl rfl) (by rw [if_pos (by decide)]; exact c4)
      · rw [if_neg c4, if_neg c4]
        by_cases cD : D = 1
        · rw [if_pos cD, if_pos cD]; exact go 53 (.inr (.inl rfl)) (by rw [if_neg (by decide)]; omega)
        · rw [if_neg cD, if_neg cD]; exact go 64 (.inr (.inr rfl)) (by rw [if_neg (by decide)]; omega)
end jLcb
