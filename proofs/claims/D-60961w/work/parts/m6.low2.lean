/-! the linker: relocations of kinds 27 and 28, both sides *-/
set_option maxRecDepth 100000
section jLlx
variable {s t u u1 w' s' t' t1 : jS} {a b k m mm n nn o p q v l x c f g i j A H C K S X P Q V D F rr n' sec w r how val q0 kd wc wt sz Y : Int} {O : Int → Int → Int → Int → Int} {d e z y : Int → Int → Int} {G B : Int → Int}
/-- loose or not: both -/
theorem x_free (h : rmS C H S O s t e d z G x j 0 A K P) (fl : flR C H O s t x F) (x0 : 0 ≤ x) (x1 : x < 6) (hS : sIn S x) (j0 : 0 ≤ j) (j1 : j < O x 2 2 0) : ∃ Y, (Y = 0 ∨ Y = 1) ∧ m_X35_low s (C + 4275) how = u_X35_low_43 s (C + 4275) how Y ∧ ∀ t1, tW6 H t t1 → ∀ V w, u_X37_relocate_626 t1 H (300 * x + j) V w = u_X37_relocate_655 t1 H (300 * x + j) V w Y := by
  obtain ⟨⟨r0, r1⟩, ⟨l0, l1', -⟩, -, vo, g, j3⟩ := h.1.rl x0 x1 hS j0 j1
  obtain ⟨-, l1, l2, l3, -⟩ := rel_lo vo g j0 j1
  obtain ⟨⟨f1, f2⟩, f3⟩ := id fl
  have z42 : ∀ s0, u_X35_low_42 s0 (C + 4275) how = u_X35_low_43 s0 (C + 4275) how 0 := fun s0 => by rw [eu_X35_low_42]; rfl
  have z654 : ∀ t1 V w, u_X37_relocate_654 t1 H (300 * x + j) V w = u_X37_relocate_655 t1 H (300 * x + j) V w 0 := fun t1 V w => by rw [eu_X37_relocate_654]; rfl
  by_cases c : F = 0
  · refine ⟨0, .inl rfl, ?_, fun t1 w1 V w => ?_⟩
    · rw [em_X35_low]; unfold dm_X35_low
      rw [f1, if_pos c, z42]
    · rw [eu_X37_relocate_626]; unfold du_X37_relocate_626
      rw [w1.2 _ _ _ (by omega), f2, if_pos c, z654]
  · obtain ⟨y01, yl⟩ := f3 (O x 5 j 1) l1 (by omega)
    refine ⟨jf s 1002 (C + 4275 + 37) (O x 5 j 1), y01, ?_, fun t1 w1 V w => ?_⟩
    · rw [em_X35_low]; unfold dm_X35_low
      rw [f1, if_neg c, h.2.1.1.1, jix_in x0 (by omega), Option.bind_some, h.2.1.1.2.1, jix_in j0 (by omega), Option.bind_some, show C + 4275 + -4000 + 4041 + 1858 * x + 614 = fAt C x + 614 by unfold fAt; omega, show fAt C x + 614 + 4 + 309 + 1 * j = rlA (fAt C x + 614) j from rfl, l1', jlt_in l1 (by omega), Option.bind_some]
      rcases y01 with q | q
      · rw [q, if_pos rfl, z42]
      · rw [q, if_neg n10]
    · obtain ⟨-, -, hut, -⟩ := (h.1.w6 w1).rl x0 x1 hS j0 j1
      obtain ⟨-, t1', -⟩ := t_relr hut j0 j1
      obtain ⟨r, e1, r01, rl⟩ := t_hasLoose (a := O x 5 j 1) hut vo g x0 x1
      have er : r = jf s 1002 (C + 4275 + 37) (O x 5 j 1) := by
        rcases r01 with q | q
        · rcases y01 with q2 | q2
          · rw [q, q2]
          · have := rl.mpr (yl.mp q2); omega
        · have := yl.mpr (rl.mp q); omega
      rw [← er, eu_X37_relocate_626]; unfold du_X37_relocate_626
      rw [w1.2 _ _ _ (by omega), f2, if_neg c, jlt_in (by omega) (by omega), Option.bind_some, t1', w1.2 _ _ _ (by omega), h.2.1.2.1, e1, Option.bind_some]
      rcases r01 with q | q
      · rw [q, if_pos rfl, z654]
      · rw [q, if_neg n10]
theorem x_low (h : rmS C H S O s t e d z G x j 0 A (-1) P) (wk : wkR C H O s t d z x j A (-1) P m) (fl : flR C H O s t x F) (hb : jBd s 1 6) (x0 : 0 ≤ x) (x1 : x < 6) (hS : sIn S x) (j0 : 0 ≤ j) (j1 : j < O x 2 2 0) (hk : O x 5 j 2 = 27 ∨ O x 5 j 2 = 28) : ∃ r q, relT s (C + 4275) (rlA (fAt C x + 614) j) mm 0 = some r ∧ u_X37_relocate_128 t H (300 * x + j) (O x 5 j 2) q0 = some q ∧ rwE C H s t 0 A m r q := by
  obtain ⟨val, u, vj, -, R, By, hm, ⟨c39, c40⟩, ec, et⟩ := x_relV (m := mm) h x0 x1 hS j0 j1 (by omega) (by omega)
  obtain ⟨⟨r0, r1⟩, ⟨-, -, l2', -⟩, hut, vo, g, j3⟩ := hm.1.rl x0 x1 hS j0 j1
  obtain ⟨-, -, ad⟩ := rl_tgt (S := S) vo g x0 x1 hS j0 j1 (by omega) (by omega)
  have v0 := vj.1
  have v1 := vj.2
  have a0 := ad.1
  have a1 := ad.2
  obtain ⟨V, hV⟩ : ∃ V, V = val + O x 5 j 4 := ⟨_, rfl⟩
  rw [← hV] at c40 et
  have kw : kW (O x 5 j 2) (O x 5 j 4) = 4 := by rcases hk with q | q <;> rw [q] <;> rfl
  have wu := wk.rs (u := u) By
  obtain ⟨⟨m0, b0, b1⟩, hP, hw⟩ := id wk
  have m4 : m = 4 := by
    rcases hw with ⟨-, z, -⟩ | ⟨z, -⟩
    · omega
    · omega
  have gp := gpK_lo h.1.1.1
  obtain ⟨Y, Y01, eL, eT⟩ := x_free (how := O x 5 j 2) hm (fl.rs R .rfl) x0 x1 hS j0 j1
  obtain ⟨wc, wt, wg, wF⟩ := x_wdR (how := O x 5 j 2) hm wu x0 x1 hS j0 j1 (by omega) (by omega) (by omega) (by omega) (.inl m4)
  have e110 : u_X35_low_110 u (C + 4275) (O x 5 j 2) = (m_X35_fit u (C + 4275) (O x 5 j 2) 4 (loP V)).bind fun q2 => jth q2.2.1 (some (q2.1, true, q2.2.2)) (some (q2.1, false, 0)) := by
    rw [eu_X35_low_110]; unfold du_X35_low_110
    rw [c_lowerOf, Option.bind_some, c40]
  have e719 : ∀ t1 w, u_X37_relocate_719 t1 H (300 * x + j) V w = (m_X37_lowWord t1 H (300 * x + j) w (loP V) (-1)).bind fun q2 => some (q2.1, Wz q2.2) := fun t1 w => by
    rw [eu_X37_relocate_719]; unfold du_X37_relocate_719
    rw [t_low, Option.bind_some]
  have bF : ∀ b i u' e', (∀ i, m_X35_fit u (C + 4275) (O x 5 j 2) 4 i = some (u', true, e')) → m_X35_based u (C + 4275) (O x 5 j 2) b i = some (u', true, e') := fun b i u' e' hf => by
    rw [em_X35_based]; unfold dm_X35_based
    rw [hf, Option.bind_some]; rfl
  have l1 := loP_lo (v := V)
  have h108 : ∀ t1, tW6 H t t1 → jf t1 41 H 108 = gpK d := fun t1 w1 => by
    rw [w1.2 _ _ _ (by omega)]; exact h.1.1.2.2.2.2.2.2.2.1
  have hgp : m_X35_gp u (C + 4275) = some (u, gpK d) := hm.1.1.gp
  have hw4 : O x 5 j 2 = 24 ∨ O x 5 j 2 = 25 ∨ O x 5 j 2 = 27 ∨ O x 5 j 2 = 28 := by omega
  -- from here on: three ways
  have go : ∃ r' q, m_X35_low u (C + 4275) (O x 5 j 2) = some r' ∧ ((m_X38_kind t (H + 4) wt).bind fun q2 => (m_X37_takes q2.1 (O x 5 j 2) q2.2).bind fun v3 => if v3 = 0 then (m_X37_wrong q2.1 H 7 (300 * x + j)).bind fun q4 => some (q4.1, Wz q4.2) else u_X37_relocate_626 q2.1 H (300 * x + j) V wt) = some q ∧ rwE C H u t 0 A m r' q := by
    refine x_wgen (how := O x 5 j 2) hm.1 (hb.sm R.1) hm.2.1 x0 x1 j0 j3 (by unfold hwK; omega) wg (m_X35_low u (C + 4275) (O x 5 j 2)) (fun w t1 => u_X37_relocate_626 t1 H (300 * x + j) V w) (fun u' e' hf => ?_) (fun k t1 hkk ok w1 => ?_)
    · have e71 : u_X35_low_71 u (C + 4275) (O x 5 j 2) Y = some (u', true, e') := by
        rw [eu_X35_low_71]; unfold du_X35_low_71
        by_cases c : Y = 0
        · rw [if_pos c, e110, hf, Option.bind_some]; rfl
        · rw [if_neg c, hgp, Option.bind_some]
          dsimp only
          rw [c40, W64_in (by omega) (by omega), c_isLowR, Option.bind_some]
          by_cases c2 : -2048 ≤ V - gpK d ∧ V - gpK d ≤ 2047
          · rw [if_pos c2, if_neg n10, hgp, Option.bind_some]
            dsimp only
            rw [bF _ _ u' e' hf, Option.bind_some]; rfl
          · rw [if_neg c2, if_pos rfl, e110, hf, Option.bind_some]; rfl
      rw [eL, eu_X35_low_43]; unfold du_X35_low_43
      by_cases c : Y = 0
      · rw [if_pos c, e71]
      · rw [if_neg c, c40, c_isLowR, Option.bind_some]
        by_cases c2 : -2048 ≤ V ∧ V ≤ 2047
        · rw [if_pos c2, if_neg n10, bF _ _ u' e' hf, Option.bind_some]; rfl
        · rw [if_neg c2, if_pos rfl, e71]
    · have hmw := hm.rs (u := u) (w' := t1) .rfl (fun _ _ _ _ _ => rfl) w1
      have tz : ∀ (t2 : jS) (v : Int), (m_X37_lowWord t1 H (300 * x + j) wc v (-1) = some (t2, 1) → (m_X37_lowWord t1 H (300 * x + j) wc v (-1)).bind (fun q2 => some (q2.1, Wz q2.2)) = some (t2, 1)) := fun t2 v e => by rw [e, Option.bind_some, Wz_1]
      have low : ∃ r' q, u_X35_low_110 u (C + 4275) (O x 5 j 2) = some r' ∧ u_X37_relocate_719 t1 H (300 * x + j) V wc = some q ∧ rwE C H u t1 0 A m r' q := by
        obtain ⟨u2, w2, e1, e2, hq⟩ := x_lowF (rr := 300 * x + j) (i := loP V) hmw.1 hmw.2.1.1.2.2 hmw.2.1.2.2 b0 (by omega) hkk wg.2.1 wg.1 hw4 ok l1.1 l1.2
        exact ⟨_, _, by rw [e110, e1, Option.bind_some, jth_ff], by rw [e719, e2, Option.bind_some, Wz_1], by rw [m4]; exact hq⟩
      have e71 : ∃ r' q, u_X35_low_71 u (C + 4275) (O x 5 j 2) Y = some r' ∧ u_X37_relocate_681 t1 H (300 * x + j) V wc Y = some q ∧ rwE C H u t1 0 A m r' q := by
        rw [eu_X35_low_71, eu_X37_relocate_681]; unfold du_X35_low_71 du_X37_relocate_681
        by_cases c : Y = 0
        · rw [if_pos c, if_pos c]; exact low
        · rw [if_neg c, if_neg c, hgp, Option.bind_some]
          dsimp only
          rw [c40, h108 t1 w1, W64_in (by omega) (by omega), c_isLowR, t_isNearR, Option.bind_some, Option.bind_some]
          by_cases c2 : -2048 ≤ V - gpK d ∧ V - gpK d ≤ 2047
          · rw [if_pos c2, if_neg n10, if_neg n10, hgp, Option.bind_some]
            dsimp only
            obtain ⟨u2, w2, e1, e2, hq⟩ := x_lowB (rr := 300 * x + j) (i := V - gpK d) (x := 3) hmw.1 hmw.2.1.1.2.2 hmw.2.1.2.2 b0 (by omega) hkk wg.2.1 wg.1 hw4 ok (.inr rfl) c2.1 c2.2
            rw [W64_in (by omega) (by omega), e1, e2, Option.bind_some, Option.bind_some, jth_ff, Wz_1]
            exact ⟨_, _, rfl, rfl, by rw [m4]; exact hq⟩
          · rw [if_neg c2, if_pos rfl, if_pos rfl]; exact low
      show ∃ r' q, _ = some r' ∧ u_X37_relocate_626 t1 H (300 * x + j) V wc = some q ∧ _
      rw [eL, eT t1 w1, eu_X35_low_43, eu_X37_relocate_655]; unfold du_X35_low_43 du_X37_relocate_655
      by_cases c : Y = 0
      · rw [if_pos c, if_pos c]; exact e71
      · rw [if_neg c, if_neg c, c40, c_isLowR, t_isNearR, Option.bind_some, Option.bind_some]
        by_cases c2 : -2048 ≤ V ∧ V ≤ 2047
        · rw [if_pos c2, if_neg n10, if_neg n10]
          obtain ⟨u2, w2, e1, e2, hq⟩ := x_lowB (rr := 300 * x + j) (i := V) (x := 0) hmw.1 hmw.2.1.1.2.2 hmw.2.1.2.2 b0 (by omega) hkk wg.2.1 wg.1 hw4 ok (.inl rfl) c2.1 c2.2
          rw [e1, e2, Option.bind_some, Option.bind_some, jth_ff, Wz_1]
          exact ⟨_, _, rfl, rfl, by rw [m4]; exact hq⟩
        · rw [if_neg c2, if_pos rfl, if_pos rfl]; exact e71
  obtain ⟨r', q, e1, e2, hq⟩ := go
  refine ⟨r', q, ?_, ?_, hq.rs R By⟩
  · rw [ec]
    have e453 : u_X35_relocate_453 u (C + 4275) (rlA (fAt C x + 614) j) = some r' := by
      rw [eu_X35_relocate_453]; unfold du_X35_relocate_453
      rw [jrd_in r0 r1, Option.bind_some, l2', e1, Option.bind_some, hq.id.1]
    unfold relK
    rcases hk with q | q <;> (rw [q]; simp only [eq_self, and_false, false_and, and_true, true_and, if_true, if_false, reduceIte, Int.reduceEq, Int.reduceLT, Int.reduceLE, Int.reduceNeg, not_false_eq_true, Option.bind_some, jls]; exact e453)
  · rw [et, if_neg (by omega), t_258 (by omega) (by omega), t_302 (by omega) (.inl h.2.2.2.1), eu_X37_relocate_302]; unfold du_X37_relocate_302
    rw [wF, Option.bind_some, ← e2]
    rcases hk with q | q <;> (rw [q]; simp only [eq_self, and_false, false_and, and_true, true_and, if_true, if_false, reduceIte, Int.reduceEq, Int.reduceLT, Int.reduceLE, Int.reduceNeg, not_false_eq_true, Option.bind_some, jls])
end jLlx
