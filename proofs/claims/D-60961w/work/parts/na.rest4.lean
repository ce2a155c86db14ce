/-! the linker: relocations of kinds 24 and 25 as a whole, both sides *-/
set_option maxRecDepth 100000
section jLrv
variable {s t u u1 w' s' t' t1 : jS} {a b k m mm n nn o p q v l x c f g i j A H C K S X X' P Q V D F M rr n' sec w r how val q0 kd wc wt sz Y y0 h' : Int} {O : Int → Int → Int → Int → Int} {d e z y : Int → Int → Int} {G B : Int → Int} {o' : Int → Int → Int → Int}
theorem rwE.fit {r : jS × Bool × Int} {q : jS × Int} (h : rwE C H s t sec A m r q) : r.2.1 = true ∨ r.2 = (false, 0) := by
  rcases h with ⟨-, g2⟩ | ⟨-, g2, -⟩
  · exact .inl g2.1.1
  · exact .inr g2
theorem x_rest (h : rmS C H S O s t e d z G x j 0 A (-1) P) (wk : wkR C H O s t d z x j A (-1) P m) (hb : jBd s 1 6) (x0 : 0 ≤ x) (x1 : x < 6) (hS : sIn S x) (j0 : 0 ≤ j) (j1 : j < O x 2 2 0) (hk : O x 5 j 2 = 24 ∨ O x 5 j 2 = 25) : ∃ r q, relT s (C + 4275) (rlA (fAt C x + 614) j) mm 0 = some r ∧ u_X37_relocate_93 t H (300 * x + j) (O x 5 j 2) = some q ∧ rwE C H s t 0 A m r q := by
  obtain ⟨val, u, vj, -, R, By, hm, ⟨c39, c40⟩, ec, et⟩ := x_relV (m := mm) h x0 x1 hS j0 j1 (by omega) (by omega)
  obtain ⟨⟨r0, r1⟩, ⟨-, -, l2', -⟩, hut, vo, g, j3⟩ := hm.1.rl x0 x1 hS j0 j1
  have kw : kW (O x 5 j 2) (O x 5 j 4) = 4 := by rcases hk with q | q <;> rw [q] <;> rfl
  have wu := wk.rs (u := u) By
  obtain ⟨⟨m0, b0, b1⟩, hP, hw⟩ := id wk
  have m4 : m = 4 := by
    rcases hw with ⟨-, z, -⟩ | ⟨z, -⟩
    · omega
    · omega
  have hbu := hb.sm R.1
  have hw4 : O x 5 j 2 = 24 ∨ O x 5 j 2 = 25 ∨ O x 5 j 2 = 27 ∨ O x 5 j 2 = 28 := by omega
  have eC : ∀ r', r'.2.1 = true ∨ r'.2 = (false, 0) → m_X35_rest u (C + 4275) (O x 5 j 2) = some r' → relT s (C + 4275) (rlA (fAt C x + 614) j) mm 0 = some r' := fun r' hr e => by
    have e462 : u_X35_relocate_462 u (C + 4275) (rlA (fAt C x + 614) j) = some r' := by
      rw [eu_X35_relocate_462]; unfold du_X35_relocate_462
      rw [jrd_in r0 r1, Option.bind_some, l2', e, Option.bind_some, jth_id hr]
    rw [ec]; unfold relK
    rcases hk with q | q <;> (rw [q]; simp only [eq_self, and_false, false_and, and_true, true_and, if_true, if_false, reduceIte, Int.reduceEq, Int.reduceLT, Int.reduceLE, Int.reduceNeg, not_false_eq_true, Option.bind_some, jls]; exact e462)
  have e93 : ∀ v, m_X37_upperFor t H (300 * x + j) = some v → u_X37_relocate_93 t H (300 * x + j) (O x 5 j 2) = if v = -1 then (m_X37_wrong t H 7 (300 * x + j)).bind fun q1 => some (q1.1, Wz q1.2) else u_X37_relocate_128 t H (300 * x + j) (O x 5 j 2) v := fun v hv => by
    rw [eu_X37_relocate_93]; unfold du_X37_relocate_93
    rw [hv, Option.bind_some, eu_X37_relocate_102]; unfold du_X37_relocate_102
    rw [eu_X37_relocate_115]; unfold du_X37_relocate_115
    rcases hk with q | q <;> (rw [q]; simp only [eq_self, and_false, false_and, and_true, true_and, if_true, if_false, reduceIte, Int.reduceEq, Int.reduceLT, Int.reduceLE, Int.reduceNeg, not_false_eq_true, Option.bind_some, jls])
  rcases x_restU (how := O x 5 j 2) hm c39 x0 x1 hS j0 j1 hk with ⟨f1, f2⟩ | ⟨X', h', ⟨hX, hXx⟩, ⟨h0, h1⟩, ⟨k23, ka⟩, f1, f2⟩
  · obtain ⟨u', e', w', e3, e4, hx⟩ := x_no (m := m) (f := 7) hm.1 hbu hm.2.1 x0 x1 j0 j3 (by decide)
    refine ⟨(u', true, e'), (w', 0), eC _ (.inl rfl) (f2 u' e' e3), ?_, hx.rs R By⟩
    rw [e93 _ f1, if_pos rfl, e4, Option.bind_some, Wz_0]
  · obtain ⟨k, M, P', ⟨⟨k0, k1⟩, hM, hP', hnr, hsz⟩, eR, -⟩ := c_restB (how := O x 5 j 2) hm.1 x0 x1 hS h0 h1 k23 hm.2.1.1.1 hX ka hm.2.1.2.1
    have eR := eR f2
    have gp := gpK_lo h.1.1.1
    obtain ⟨wc, wt, wg, wF⟩ := x_wdR (how := O x 5 j 2) hm wu x0 x1 hS j0 j1 (by omega) (by omega) (by omega) (by omega) (.inl m4)
    have bF : ∀ b i u' e', (∀ i, m_X35_fit u (C + 4275) (O x 5 j 2) 4 i = some (u', true, e')) → m_X35_based u (C + 4275) (O x 5 j 2) b i = some (u', true, e') := fun b i u' e' hf => by
      rw [em_X35_based]; unfold dm_X35_based
      rw [hf, Option.bind_some]; rfl
    have ll := loP_lo (v := M - P')
    obtain ⟨r', q, e1, e2, hq⟩ := x_wgen (how := O x 5 j 2) (m := m) hm.1 hbu hm.2.1 x0 x1 j0 j3 (by unfold hwK; omega) wg (m_X35_rest u (C + 4275) (O x 5 j 2)) (fun w t1 => u_X37_relocate_617 t1 H (300 * x + j) (300 * x + h') w) (fun u' e' hf => by
      rw [eR, hf, bF _ _ u' e' hf, bF _ _ u' e' hf]
      split
      · split <;> rfl
      · rfl) (fun kk t1 hkk ok w1 => by
      have hmw := hm.rs (u := u) (w' := t1) .rfl (fun _ _ _ _ _ => rfl) w1
      obtain ⟨k', M', P2, ⟨-, -, -, hnr, -⟩, eR2, eT⟩ := c_restB (how := O x 5 j 2) hmw.1 x0 x1 hS h0 h1 k23 hmw.2.1.1.1 hX ka hmw.2.1.2.1
      have ll := loP_lo (v := M' - P2)
      have e617 : u_X37_relocate_617 t1 H (300 * x + j) (300 * x + h') wc = (m_X37_lowOfUpper t1 H (300 * x + j) (300 * x + h') wc).bind fun q1 => some (q1.1, Wz q1.2) := by rw [eu_X37_relocate_617]; rfl
      show ∃ r' q, _ = some r' ∧ u_X37_relocate_617 t1 H (300 * x + j) (300 * x + h') wc = some q ∧ _
      rw [eR2 f2, e617, eT (300 * x + j) wc]
      by_cases c : z 2 k' = 300 * x + h' ∧ szK d k' (plK d k') = 0
      · rw [if_pos c, if_pos c]
        by_cases cn : nrV M'
        · obtain ⟨u2, w2, e1, e2, hq⟩ := x_lowB (rr := 300 * x + j) (i := M') (x := 0) hmw.1 hmw.2.1.1.2.2 hmw.2.1.2.2 b0 (by omega) hkk wg.2.1 wg.1 hw4 ok (.inl rfl) cn.1 cn.2
          rw [if_pos cn, if_pos cn, e1, e2, Option.bind_some, Option.bind_some, jth_ff, Option.bind_some, Wz_1, Wz_1]
          exact ⟨_, _, rfl, rfl, by rw [m4]; exact hq⟩
        · have cg : nrV (M' - gpK d) := by rcases hnr c.1 c.2 with q | q; exact absurd q cn; exact q
          obtain ⟨u2, w2, e1, e2, hq⟩ := x_lowB (rr := 300 * x + j) (i := M' - gpK d) (x := 3) hmw.1 hmw.2.1.1.2.2 hmw.2.1.2.2 b0 (by omega) hkk wg.2.1 wg.1 hw4 ok (.inr rfl) cg.1 cg.2
          rw [if_neg cn, if_neg cn, e1, e2, Option.bind_some, Option.bind_some, jth_ff, Option.bind_some, Wz_1, Wz_1]
          exact ⟨_, _, rfl, rfl, by rw [m4]; exact hq⟩
      · obtain ⟨u2, w2, e1, e2, hq⟩ := x_lowF (rr := 300 * x + j) (i := loP (M' - P2)) hmw.1 hmw.2.1.1.2.2 hmw.2.1.2.2 b0 (by omega) hkk wg.2.1 wg.1 hw4 ok ll.1 ll.2
        rw [if_neg c, if_neg c, e1, e2, Option.bind_some, Option.bind_some, jth_ff, Option.bind_some, Wz_1, Wz_1]
        exact ⟨_, _, rfl, rfl, by rw [m4]; exact hq⟩)
    refine ⟨r', q, eC r' hq.fit e1, ?_, hq.rs R By⟩
    rw [e93 _ f1, if_neg (by omega), et, if_neg (by omega), t_258 (by omega) (by omega), t_302 (by omega) (.inl h.2.2.2.1), eu_X37_relocate_302]; unfold du_X37_relocate_302
    rw [wF, Option.bind_some, ← e2]
    rcases hk with q | q <;> (rw [q]; simp only [eq_self, and_false, false_and, and_true, true_and, if_true, if_false, reduceIte, Int.reduceEq, Int.reduceLT, Int.reduceLE, Int.reduceNeg, not_false_eq_true, Option.bind_some, jls])
end jLrv
