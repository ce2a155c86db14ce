/-! the linker: relocations of kind 23 and 26, both sides *-/
set_option maxRecDepth 100000
section jLup
variable {s t u w' s' t' t1 : jS} {a b k m mm n nn o p q v l x c f g i j A H C K S X P Q V D rr n' sec w r how val q0 kd wc wt sz : Int} {O : Int → Int → Int → Int → Int} {d e z y : Int → Int → Int} {G B : Int → Int}
/-- sizes of a piece that moves -/
theorem LZD.size (h : LZD C H S O s t e d z G) (k0 : 0 ≤ k) (k1 : k < d 0 1) (hm : mvK d k) : szK d k (plK d k) = d 15 k ∧ (d 15 k = grK d k ∨ d 15 k = 0 ∧ ¬ d 5 k = 1 ∨ d 15 k = 2 ∧ ¬ d 5 k = 3 ∧ d 10 k = 1 ∨ d 15 k = 4) := by
  refine ⟨?_, h.2.2.2.2.2.2.1.2 k k0 k1 hm⟩
  unfold mvK at hm
  unfold szK
  rw [if_neg (by omega), if_neg (by omega)]
/-- nothing is written, both -/
theorem rwE.none : rwE C H s t 0 A 0 (s, false, 0) (t, 1) := .inr ⟨rfl, rfl, .rfl, .rfl, fun i i0 i1 => by omega, fun _ _ _ _ _ => rfl, fun _ _ _ _ _ _ _ => rfl⟩
theorem x_near (h : rmS C H S O s t e d z G x j 0 A K P) (wk : wkR C H O s t d z x j A K P m) (hb : jBd s 1 6) (x0 : 0 ≤ x) (x1 : x < 6) (hS : sIn S x) (j0 : 0 ≤ j) (j1 : j < O x 2 2 0) (hk : O x 5 j 2 = 23) : ∃ r q, relT s (C + 4275) (rlA (fAt C x + 614) j) mm 0 = some r ∧ u_X37_relocate_128 t H (300 * x + j) (O x 5 j 2) q0 = some q ∧ rwE C H s t 0 A m r q := by
  obtain ⟨val, u, vj, -, R, By, hm, ⟨c39, c40⟩, ec, et⟩ := x_relV (m := mm) h x0 x1 hS j0 j1 (by omega) (by omega)
  obtain ⟨⟨r0, r1⟩, -, hut, vo, g, j3⟩ := hm.1.rl x0 x1 hS j0 j1
  obtain ⟨-, -, ad⟩ := rl_tgt (S := S) vo g x0 x1 hS j0 j1 (by omega) (by omega)
  have v0 := vj.1
  have v1 := vj.2
  have a0 := ad.1
  have a1 := ad.2
  obtain ⟨V, hV⟩ : ∃ V, V = val + O x 5 j 4 := ⟨_, rfl⟩
  rw [← hV] at c40 et
  have kw : kW (O x 5 j 2) (O x 5 j 4) = 4 := by rw [hk]; rfl
  have wu := wk.rs (u := u) By
  obtain ⟨⟨m0, b0, b1⟩, hP, hw⟩ := id wk
  have W : W64 (jf u 39 (C + 4275) 40 - jf u 39 (C + 4275) 41) = V - P := by rw [c40, hm.2.2.1.2, W64_in (by omega) (by omega)]
  have eC : relT s (C + 4275) (rlA (fAt C x + 614) j) mm 0 = (m_X35_near u (C + 4275)).bind fun q17 => jth q17.2.1 (some (q17.1, true, q17.2.2)) (some (q17.1, false, 0)) := by
    rw [ec]; unfold relK
    rw [hk]; simp only [eq_self, and_false, false_and, and_true, true_and, if_true, if_false, reduceIte, Int.reduceEq, Int.reduceLT, Int.reduceLE, Int.reduceNeg, not_false_eq_true, Option.bind_some, jls]
  -- a word of four bytes
  have go : m = 4 → (K = -1 ∨ 0 ≤ K ∧ K < d 0 1) → ∃ r q, u_X35_near_26 u (C + 4275) (V - P) = some r ∧ u_X37_relocate_128 t H (300 * x + j) (O x 5 j 2) q0 = some q ∧ rwE C H u t 0 A m r q ∧ jth r.2.1 (some (r.1, true, r.2.2)) (some (r.1, false, (0 : Int))) = some r := fun m4 hK => by
    obtain ⟨wc, wt, wg, wF⟩ := x_wdR (how := 23) hm wu x0 x1 hS j0 j1 (by omega) (by omega) (by decide) (by omega) (.inl m4)
    obtain ⟨r', q, e1, e2, hq⟩ := x_wnum (how := 23) (D := V - P) hm.1 (hb.sm R.1) hm.2.1 x0 x1 j0 j3 b0 (by omega) (by unfold hwK; omega) wg ⟨by omega, by omega⟩ (fun w => cNum w (C + 4275) 23 (V - P)) rfl (fun t1 => (m_X37_isInt t1 (W64 (V - (jf t1 41 H 116)))).bind fun v5 =>
      if v5 = 0 then
        (m_X37_wrong t1 H 8 (300 * x + j)).bind fun q6 =>
        some (q6.1, Wz q6.2)
      else
        (m_X37_high t1 (W64 (V - (jf t1 41 H 116)))).bind fun v7 =>
        (m_X37_fitted t1 H (300 * x + j) (jf t1 41 H 115) wt v7).bind fun q8 =>
        some (q8.1, Wz q8.2)) fun t1 w1 => by
      have e116 : jf t1 41 H 116 = P := by rw [w1.2 _ _ _ (by omega)]; exact h.2.2.2.2
      show (m_X37_isInt t1 (W64 (V - (jf t1 41 H 116)))).bind _ = _
      rw [e116, W64_in (by omega) (by omega)]; rfl
    refine ⟨r', q, ?_, ?_, by rw [m4]; exact hq, hq.id.1⟩
    · rw [eu_X35_near_26]; unfold du_X35_near_26
      exact e1
    · have hK2 : jf t 41 H 114 = -1 ∨ ¬ jf t 41 H 114 = -1 ∧ ∃ sz, jlt t 1000 (H + 93 + 13) 256 (jf t 41 H 114) = some sz ∧ ¬ sz = 0 := by
        rcases hw with ⟨z1, -⟩ | ⟨z1, -, -, -, -, -, z7, -⟩
        · exact .inl (by rw [h.2.2.2.1]; exact z1)
        · exact .inr ⟨by rw [h.2.2.2.1]; omega, _, (x_sizeR h z1.1 z1.2).2, by omega⟩
      rw [et, if_neg (by omega), t_258 (by omega) (by omega), t_302 (by omega) hK2, eu_X37_relocate_302]; unfold du_X37_relocate_302
      rw [wF, Option.bind_some, hk]
      simp only [eq_self, and_false, false_and, and_true, true_and, if_true, if_false, reduceIte, Int.reduceEq, Int.reduceLT, Int.reduceLE, Int.reduceNeg, not_false_eq_true, Option.bind_some, jls]
      exact e2
  rcases hw with ⟨z1, z2, -⟩ | ⟨z1, -, -, -, -, z6, z7, -⟩
  · obtain ⟨r, q, e1, e2, hq, hid⟩ := go (by omega) (.inl z1)
    refine ⟨r, q, ?_, e2, hq.rs R By⟩
    rw [eC, em_X35_near]; unfold dm_X35_near
    simp only [jlet]
    rw [W, hm.2.2.1.1, if_pos z1, e1, Option.bind_some, hid]
  · have d5 : d 5 K = 3 := by rw [z6, hk]; rfl
    obtain ⟨e7, sz⟩ := h.1.1.size z1.1 z1.2 (.inr (.inr d5))
    have g4 : grK d K = 4 := by unfold grK; rw [if_neg (by omega)]
    have e : m_X35_near u (C + 4275) = if m = 0 then some (u, false, 0) else u_X35_near_26 u (C + 4275) (V - P) := by
      rw [em_X35_near]; unfold dm_X35_near
      simp only [jlet]
      rw [W, hm.2.2.1.1, if_neg (by omega), (x_sizeR hm z1.1 z1.2).1, Option.bind_some, ← z7]
    by_cases c : m = 0
    · refine ⟨(u, false, 0), (t, 1), ?_, ?_, by rw [c]; exact rwE.none.rs R By⟩
      · rw [eC, e, if_pos c]; rfl
      · rw [et, if_neg (by omega), t_258 (by omega) (by omega), eu_X37_relocate_258]; unfold du_X37_relocate_258
        rw [if_neg (by omega), (x_sizeR h z1.1 z1.2).2, h.2.2.2.1, if_neg (by omega), Option.bind_some, if_pos (by omega), Wz_1]
    · obtain ⟨r, q, e1, e2, hq, hid⟩ := go (by omega) (.inr z1)
      refine ⟨r, q, ?_, e2, hq.rs R By⟩
      rw [eC, e, if_neg c, e1, Option.bind_some, hid]
/-- a word put together anew, both -/
theorem x_formed (h : rlS C H S O s t e d z G) (hb : jBd s 1 6) (ha : atR C H s t x j 0 A) (x0 : 0 ≤ x) (x1 : x < 6) (j0 : 0 ≤ j) (j1 : j < 300) (b0 : 0 ≤ A) (b1 : A + (if r < 48 then 4 else 2) ≤ 4096) (r0 : 0 ≤ r) (r1 : r < 75) (hs : knS r.toNat) (hg : pImm r.toNat v = true → pGood r.toNat (D, 0, 0, v) = true) (d0 : 0 ≤ D) (d1 : D ≤ 31) :
    (pImm r.toNat v = true → ∃ u w, m_X2_may s (C + 1) r v = some 1 ∧ m_X2_word s (C + 1) r D 0 0 (L2i v) = some (s, false, pPut r.toNat (D, 0, 0, v)) ∧ m_X35_put s (C + 4275) (C + 4275 + 34 + 0) A (if r < 48 then 4 else 2) (pPut r.toNat (D, 0, 0, v)) = some (u, 0) ∧ m_X37_formed t H (300 * x + j) r D 0 0 v = some (w, 1) ∧ rwE C H s t 0 A (if r < 48 then 4 else 2) (u, false, 0) (w, 1)) ∧
    (¬ pImm r.toNat v = true → ∃ u e w, m_X2_may s (C + 1) r v = some 0 ∧ m_X35_need s (C + 4275) 0 8 = some (u, true, e) ∧ m_X37_formed t H (300 * x + j) r D 0 0 v = some (w, 0) ∧ rwE C H s t 0 A (if r < 48 then 4 else 2) (u, true, e) (w, 0)) := by
  obtain ⟨f1, f2⟩ := t_formedR (rr := 300 * x + j) (d := D) (a := 0) (b := 0) (v := v) h.2.1.2.1 r0 r1 hs
  obtain ⟨m1, m2⟩ := c_may h.2.1.1.1.1 r v
  refine ⟨fun c => ?_, fun c => ?_⟩
  · obtain ⟨t1, w1, e1⟩ := f2 c (hg c) ⟨⟨d0, d1⟩, by decide, by decide⟩
    have iv := immB hs c
    have lii : L2i v = v := l2i_in (by omega) (by omega)
    have hr : ∀ e : Nat, e < 4 → -2147483648 ≤ p4g (D, 0, 0, v) e ∧ p4g (D, 0, 0, v) e ≤ 2147483647 := fun e he => by
      have : e = 0 ∨ e = 1 ∨ e = 2 ∨ e = 3 := by omega
      rcases this with rfl | rfl | rfl | rfl
      · show -2147483648 ≤ D ∧ D ≤ _; omega
      · show -2147483648 ≤ (0 : Int) ∧ (0 : Int) ≤ _; decide
      · show -2147483648 ≤ (0 : Int) ∧ (0 : Int) ≤ _; decide
      · show -2147483648 ≤ v ∧ v ≤ _; omega
    have ew := (c_word h.2.1.1.1.1 (k := r) hr).2.2 ⟨r0, r1⟩ (hg c)
    have wb := pPut_in r.toNat (D, 0, 0, v)
    have l8 : 0 ≤ (if r < 48 then (4 : Int) else 2) ∧ (if r < 48 then (4 : Int) else 2) ≤ 8 := by split <;> decide
    obtain ⟨u, w', e3, e4, hw, -⟩ := x_puts (sec := 0) (l := C + 4275) (t := t1) (H := H) (A := A) (m := if r < 48 then 4 else 2) (p := pPut r.toNat (D, 0, 0, v)) (q := pPut r.toNat (D, 0, 0, v)) h.2.2.2 (by decide) (by decide) b0 b1 l8.1 l8.2 ⟨by have := wb.1; omega, by have := wb.2; omega⟩ ⟨by have := wb.1; omega, by have := wb.2; omega⟩ (fun _ _ _ => rfl)
    refine ⟨u, w', m1 ⟨r0, r1, has3 hs, c⟩, by rw [lii]; exact ew, e3, ?_, .inr ⟨rfl, rfl, hw.pre w1⟩⟩
    rw [e1, ha.2.2, e4, Option.bind_some]
  · obtain ⟨t1, w1, e1⟩ := f1 c
    obtain ⟨u, e', w', e3, e4, hx⟩ := x_no (m := if r < 48 then 4 else 2) (f := 8) (h.w6 w1) hb (ha.w6 w1) x0 x1 j0 j1 (by decide)
    exact ⟨u, e', w', m2 (fun q => c q.2.2.2), e3, e1 w' e4, hx.pre w1⟩
end jLup
