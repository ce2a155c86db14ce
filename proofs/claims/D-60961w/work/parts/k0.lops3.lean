/-! the component's layout is built: labels, base, alignments, anew -/
set_option maxRecDepth 100000
section jLops3
variable {s t u w' : jS} {a k m o p v l n x y c j X f z B i q w S P Q P' Q' K : Int} {d e : Int → Int → Int}
theorem c_llabel (h : cBu s B d) (v : vLy d) (hb : jBd s 1 9) : jE (m_X36_label s B) (lpO s B (d 0 2) 64 (dLb d)) := by
  have hB := h
  obtain ⟨h, hp, h19, hn0, hN⟩ := h
  have v2 := v.2.2.1
  rw [em_X36_label]; unfold dm_X36_label
  rw [h.2.1.2.2.1]
  by_cases c64 : d 0 2 = 64
  · rw [if_pos c64]; exact jS_end (.inl ⟨c64, rfl⟩)
  rw [if_neg c64]
  obtain ⟨u, hu, ⟨x0, x1, x2⟩, hr, hj, hK, F, hor, hw1⟩ := nx_gen (c := 1017) (a := B + 3) (K := 74) (n := 64) (i := d 0 2) (g := jdf 74) (nf := 2) (ini := m_X56_init) (G := fun s => u_X36_label_39 s B) hp.2.1 v2.1 (by omega) ⟨hb.1, by have := hb.2; omega⟩ hn0 (fun q x hx => by rw [em_X56_init]; unfold dm_X56_init; rw [jck0_in hx]) (by decide) (by have := h.1.2.1; omega) (by decide) (by decide)
  refine jS_to hu ?_
  have LW := (nx_w (B := B) (by decide) (by decide) (by omega) (by decide) hw1).mono (Int.le_refl _) (show (2 : Int) ≤ 9 by decide)
  clear hor hw1
  have lt1 : ∀ p, 0 ≤ p → p < d 0 2 → poL s B p < jn s := fun p p0 p1 => (h.2.2.2.2.2.1 p p0 p1).1.2.1
  have cu : cLs u B d := h.cg v hj.1 hK (fun k _ _ => F _ _ _ (by omega) (by omega)) (fun k => F _ _ _ (by omega) (by omega)) (fun p p0 p1 => F _ _ _ (by omega) (by omega)) (fun k k0 k1 => F _ _ _ (by omega) (by omega)) (fun l l0 l1 => F _ _ _ (by omega) (by omega)) (fun p p0 p1 k => F _ _ _ (by omega) (by omega)) (fun k k0 k1 c j hc => F _ _ _ (by omega) (by omega)) (fun l l0 l1 k => F _ _ _ (by omega) (fun q => by have := lt1 l l0 l1; omega))
  have pu : cPool u B := ⟨hp.1.cg hj.1 (fun x hx => (hK x hx).1) fun k => F _ _ _ (by omega) (by omega), hr, fun K hk => (hp.2.2 K hk).cg hj.1 (fun x hx => (hK x hx).1) fun k => F _ _ _ (by have := plC_in hk; omega) (by have := plC_in hk; omega)⟩
  have bu : cBu u B d := ⟨cu, pu, by rw [F _ _ _ (by omega) (by omega)]; exact h19, by omega, fun K hk => by
    have kk := plC_in hk
    obtain ⟨a1, a2⟩ := hN K hk
    have e1 : cNp u B K = cNp s B K := F _ _ _ (by omega) (by omega)
    rw [e1]
    refine ⟨a1, fun k k0 k1 hz => ?_⟩
    obtain ⟨j, j0, j1, j2⟩ := a2 k k0 k1 hz
    exact ⟨j, j0, j1, by rw [F (plC K) _ _ (by omega) (by omega)]; show jf u 1020 (B + 2) k = _; rw [F _ _ _ (by omega) (by omega)]; exact j2⟩⟩
  have ne : ∀ p, 0 ≤ p → p < d 0 2 → ¬ poL u B p = jf u 1017 (B + 3) (d 0 2) := fun p p0 p1 => by
    rcases hr (d 0 2) v2.1 (by omega) with z | ⟨-, z⟩
    · omega
    · exact z p p0 (by omega) (by omega)
  obtain ⟨x, X⟩ : ∃ x, x = jf u 1017 (B + 3) (d 0 2) := ⟨_, rfl⟩
  rw [← X] at x0 x1 x2 ne
  rw [eu_X36_label_39]; unfold du_X36_label_39
  rw [cu.2.1.2.2.1, jlt_in v2.1 (by omega), Option.bind_some, ← X, jwr_in x0 x2, Option.bind_some]
  obtain ⟨y1, Y1⟩ : ∃ y1, y1 = jp u 74 x 0 (-1) := ⟨_, rfl⟩
  obtain ⟨f1, p1, -⟩ := jpF Y1
  have m1 : jSm u y1 := jSm.rfl.wr Y1
  rw [← Y1, f1 40 B 17 (by omega), cu.2.1.2.2.1, jlt_in v2.1 (by omega), Option.bind_some, f1 _ _ _ (by omega), ← X, jwr_in x0 (by rw [m1.1]; exact x2), Option.bind_some]
  obtain ⟨y2, Y2⟩ : ∃ y2, y2 = jp y1 74 x 1 0 := ⟨_, rfl⟩
  obtain ⟨f2, p2, -⟩ := jpF Y2
  rw [← Y2, f2 40 B 17 (by omega), f1 40 B 17 (by omega), cu.2.1.2.2.1, W32_in (by omega) (by omega)]
  obtain ⟨y, E_y⟩ : ∃ y, y = jp y2 40 B 17 (d 0 2 + 1) := ⟨_, rfl⟩
  obtain ⟨f_y, p_y, -⟩ := jpF E_y
  rw [jls_e, ← E_y]
  rw [p_y, W32_in (by omega) (by omega)]
  have hm : jSm u y := (m1.wr Y2).wr E_y
  have FY : ∀ c a k, ¬ (c = 74 ∧ a = x) → ¬ (c = 40 ∧ a = B ∧ k = 17) → jf y c a k = jf u c a k := fun c a k q1 q2 => by
    rw [f_y _ _ _ (by omega), f2 _ _ _ (by omega), f1 _ _ _ (by omega)]
  have cy : cLs y B (dLb d) := by
    obtain ⟨b, ⟨c1, c2, c3, c4⟩, h3, h4, h5, h6, h7, h8, h9⟩ := cu
    obtain ⟨q1, q2, q3, -⟩ := hm
    have eP : ∀ q, poP y B q = poP u B q := fun q => FY _ _ _ (by omega) (by omega)
    have eK : ∀ q, poK y B q = poK u B q := fun q => FY _ _ _ (by omega) (by omega)
    have eL : ∀ q, poL y B q = poL u B q := fun q => FY _ _ _ (by omega) (by omega)
    have H : ∀ f k, ¬ f = 0 → ¬ f = 12 → ¬ f = 13 → dLb d f k = d f k := fun f k h0 h1 h2 => dLb_no (by omega) (by omega)
    refine ⟨by rw [q1, q2, q3]; exact b, ⟨by rw [FY _ _ _ (by omega) (by omega), dLb_no (by omega) (by omega)]; exact c1, by rw [FY _ _ _ (by omega) (by omega), dLb_no (by omega) (by omega)]; exact c2, by rw [dLb_0]; exact p_y, by rw [FY _ _ _ (by omega) (by omega), dLb_no (by omega) (by omega)]; exact c4⟩, fun o o0 o1 => by rw [FY _ _ _ (by omega) (by omega), H _ _ (by decide) (by decide) (by decide)]; exact h3 o o0 o1, fun p p0 p1 => ?_, fun k k0 k1 => ?_, fun l l0 l1 => ?_, fun p q p0 p1 q0 q1 => ?_, fun p q p0 p1 q0 q1 => ?_, fun p q p0 p1 q0 q1 => ?_⟩
    · rw [dLb_no (by omega) (by omega)] at p1
      have := h4 p p0 p1
      unfold cPt at this ⊢
      rw [eP, eK, eK, q1, q3, H 1 _ (by decide) (by decide) (by decide), H 2 _ (by decide) (by decide) (by decide), H 3 _ (by decide) (by decide) (by decide), H 4 _ (by decide) (by decide) (by decide), FY _ _ _ (by omega) (by omega), FY _ _ _ (by omega) (by omega), FY _ _ _ (by omega) (by omega), FY _ _ _ (by omega) (by omega), FY _ _ _ (by omega) (by omega)]
      exact this
    · rw [dLb_no (by omega) (by omega)] at k1
      have := h5 k k0 k1
      have kk := kOf_c (f := d 5 k)
      unfold cPc pcX mvK at this ⊢
      rw [H 5 _ (by decide) (by decide) (by decide), H 6 _ (by decide) (by decide) (by decide), H 7 _ (by decide) (by decide) (by decide), H 8 _ (by decide) (by decide) (by decide), H 9 _ (by decide) (by decide) (by decide), H 10 _ (by decide) (by decide) (by decide), H 11 _ (by decide) (by decide) (by decide), H 15 _ (by decide) (by decide) (by decide), H 16 _ (by decide) (by decide) (by decide), H 4 _ (by decide) (by decide) (by decide), eK, eK, eP, eL, q1, q3]
      have R : ∀ c j, ¬ c = 74 → ¬ c = 40 → jf y c (poK u B k) j = jf u c (poK u B k) j := fun c j hc hc' => FY _ _ _ (by omega) (by omega)
      rw [R _ _ (by omega) (by omega), R _ _ (by omega) (by omega), R _ _ (by omega) (by omega), R _ _ (by omega) (by omega), R _ _ (by omega) (by omega), R _ _ (by omega) (by omega), R _ _ (by omega) (by omega), R _ _ (by omega) (by omega), R _ _ (by omega) (by omega), R _ _ (by omega) (by omega), R _ _ (by omega) (by omega), R _ _ (by omega) (by omega)]
      exact this
    · rw [dLb_0] at l1
      unfold cLb
      by_cases c : l = d 0 2
      · rw [c, eL, show poL u B (d 0 2) = x from X.symm, dLb_12, if_pos rfl, dLb_13, q1, q3]
        refine ⟨⟨x0, x1, x2⟩, ?_, ?_⟩
        · rw [f_y _ _ _ (by omega), f2 _ _ _ (by omega)]; exact p1
        · rw [f_y _ _ _ (by omega)]; exact p2
      · have := h6 l l0 (by omega)
        have nx := ne l l0 (by omega)
        unfold cLb at this
        rw [eL, eK, q1, q3, dLb_no (f := 12) (by omega) (by omega), dLb_no (f := 13) (by omega) (by omega), FY _ _ _ (by omega) (by omega), FY _ _ _ (by omega) (by omega)]
        exact this
    · rw [dLb_no (by omega) (by omega)] at p1 q1
      rw [eP, eP]; exact h7 p q p0 p1 q0 q1
    · rw [dLb_no (by omega) (by omega)] at p1 q1
      rw [eK, eK]; exact h8 p q p0 p1 q0 q1
    · rw [dLb_0] at p1 q1
      rw [eL, eL]
      intro hpq
      by_cases cp : p = d 0 2
      · rw [cp, show poL u B (d 0 2) = x from X.symm]
        exact fun z => ne q q0 (by omega) z.symm
      · by_cases cq : q = d 0 2
        · rw [cq, show poL u B (d 0 2) = x from X.symm]; exact ne p p0 (by omega)
        · exact h9 p q p0 (by omega) q0 (by omega) hpq
  refine jS_end (.inr ⟨by omega, by show d 0 2 + 1 - 1 = d 0 2; omega, bu.cg cy (by rw [hm.2.2.1]; exact Int.le_refl _) (fun x hx => by rw [hm.1]) (fun c a k q => FY _ _ _ (by omega) (by omega)) (fun k => FY _ _ _ (by omega) (by omega)) (fun k k0 k1 => FY _ _ _ (by omega) (by omega)) (by rw [FY _ _ _ (by omega) (by omega)]; exact bu.2.2.1) (dLb_no (by omega) (by omega)) fun k => dLb_no (by omega) (by omega), LW.of hm fun c a k q => FY _ _ _ (fun z => q ⟨.inl (.inr (.inl (by omega))), .inr (by rw [z.2, x2]; decide)⟩) (fun z => q ⟨.inl (.inl z.1), .inl (by omega)⟩)⟩)
theorem c_lbase (h : cBu s B d) (hz : 0 ≤ z ∧ z ≤ 1048576) : ∃ u, m_X36_base s B z = some (u, 1) ∧ cBu u B (dU d 0 3 z) ∧ lbW B s u 0 0 := by
  have hB := h
  obtain ⟨h, hp, h19, hn0, hN⟩ := h
  rw [em_X36_base]; unfold dm_X36_base
  rw [e_X36_in, if_pos (by omega), Option.bind_some, if_neg n10, jzb_in (.inl rfl : (0 : Int) = 0 ∨ (0 : Int) = 1)]
  obtain ⟨y1, E_y1⟩ : ∃ y1, y1 = jp s 40 B 18 z := ⟨_, rfl⟩
  obtain ⟨f_y1, p_y1, -⟩ := jpF E_y1
  rw [jls_e, ← E_y1]
  rw [Option.bind_some]
  obtain ⟨y, E_y⟩ : ∃ y, y = jp y1 40 B 19 0 := ⟨_, rfl⟩
  obtain ⟨f_y, p_y, -⟩ := jpF E_y
  rw [jls_e, ← E_y]
  rw [Wz_1]
  have hm : jSm s y := (jSm.rfl.wr E_y1).wr E_y
  have FY : ∀ c a k, ¬ (c = 40 ∧ a = B ∧ (k = 18 ∨ k = 19)) → jf y c a k = jf s c a k := fun c a k q => by rw [f_y _ _ _ (by omega), f_y1 _ _ _ (by omega)]
  have H : ∀ f x, ¬ (f = 0 ∧ x = 3) → dU d 0 3 z f x = d f x := fun f k h => dU_no h
  have cy : cLs y B (dU d 0 3 z) := by
    obtain ⟨b, ⟨c1, c2, c3, c4⟩, h3, h4, h5, h6, h7, h8, h9⟩ := h
    obtain ⟨q1, q2, q3, -⟩ := hm
    have eP : ∀ q, poP y B q = poP s B q := fun q => FY _ _ _ (by omega)
    have eK : ∀ q, poK y B q = poK s B q := fun q => FY _ _ _ (by omega)
    have eL : ∀ q, poL y B q = poL s B q := fun q => FY _ _ _ (by omega)
    refine ⟨by rw [q1, q2, q3]; exact b, ⟨by rw [FY _ _ _ (by omega), H _ _ (by decide)]; exact c1, by rw [FY _ _ _ (by omega), H _ _ (by decide)]; exact c2, by rw [FY _ _ _ (by omega), H _ _ (by decide)]; exact c3, by rw [dU_at, f_y _ _ _ (by omega)]; exact p_y1⟩, fun o o0 o1 => by rw [FY _ _ _ (by omega), H _ _ (by omega)]; exact h3 o o0 o1, fun p p0 p1 => ?_, fun k k0 k1 => ?_, fun l l0 l1 => ?_, fun p q p0 p1 q0 q1 => ?_, fun p q p0 p1 q0 q1 => ?_, fun p q p0 p1 q0 q1 => ?_⟩
    · rw [H _ _ (by decide)] at p1
      have := h4 p p0 p1
      unfold cPt at this ⊢
      rw [eP, eK, eK, q1, q3, H 1 _ (by omega), H 2 _ (by omega), H 3 _ (by omega), H 4 _ (by omega), FY _ _ _ (by omega), FY _ _ _ (by omega), FY _ _ _ (by omega), FY _ _ _ (by omega), FY _ _ _ (by omega)]
      exact this
    · rw [H _ _ (by decide)] at k1
      have := h5 k k0 k1
      have kk := kOf_c (f := d 5 k)
      unfold cPc pcX mvK at this ⊢
      rw [H 5 _ (by omega), H 6 _ (by omega), H 7 _ (by omega), H 8 _ (by omega), H 9 _ (by omega), H 10 _ (by omega), H 11 _ (by omega), H 15 _ (by omega), H 16 _ (by omega), H 4 _ (by omega), eK, eK, eP, eL, q1, q3]
      have R : ∀ c j, ¬ c = 40 → jf y c (poK s B k) j = jf s c (poK s B k) j := fun c j hc => FY _ _ _ (by omega)
      rw [R _ _ (by omega), R _ _ (by omega), R _ _ (by omega), R _ _ (by omega), R _ _ (by omega), R _ _ (by omega), R _ _ (by omega), R _ _ (by omega), R _ _ (by omega), R _ _ (by omega), R _ _ (by omega), R _ _ (by omega)]
      exact this
    · rw [H _ _ (by decide)] at l1
      have := h6 l l0 l1
      unfold cLb at this ⊢
      rw [eL, eK, q1, q3, H 12 _ (by omega), H 13 _ (by omega), FY _ _ _ (by omega), FY _ _ _ (by omega)]
      exact this
    · rw [H _ _ (by decide)] at p1 q1
      rw [eP, eP]; exact h7 p q p0 p1 q0 q1
    · rw [H _ _ (by decide)] at p1 q1
      rw [eK, eK]; exact h8 p q p0 p1 q0 q1
    · rw [H _ _ (by decide)] at p1 q1
      rw [eL, eL]; exact h9 p q p0 p1 q0 q1
  exact ⟨y, rfl, hB.cg cy (by rw [hm.2.2.1]; exact Int.le_refl _) (fun x hx => by rw [hm.1]) (fun c a k q => FY _ _ _ (by omega)) (fun k => FY _ _ _ (by omega)) (fun k k0 k1 => FY _ _ _ (by omega)) p_y (H _ _ (by decide)) fun k => H _ _ (by omega), lbW.rfl.of hm fun c a k q => FY _ _ _ (fun z => q ⟨.inl (.inl z.1), .inl (by omega)⟩)⟩
end jLops3
