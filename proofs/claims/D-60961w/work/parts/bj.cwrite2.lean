/-! the component writes a file: sections, starts, relocations, symbols -/
section jCwrite2
variable {s t u : jS} {N L V p n v f a b x y : Int} {g g' : Int → Int} {o : Int → Int → Int → Int} {K : Nat}
/-- reads of sections, starts, symbols, relocations -/
theorem r_sec (h : wH u V b o) (x0 : 0 ≤ x) (x1 : x < 4) : jrd u 18 b 0 = some (b + 1) ∧ jld u 1013 (b + 1) x = some ((b + 1) + 4 + 2 * x) ∧ jrd u 19 ((b + 1) + 4 + 2 * x) 1 = some (o 1 x 0) ∧ jrd u 19 ((b + 1) + 4 + 2 * x) 2 = some (o 1 x 1) ∧ jrd u 19 ((b + 1) + 4 + 2 * x) 0 = some (((b + 1) + 4 + 2 * x) + 1) ∧ jrd u 18 b 2 = some (o 2 0 0) ∧ jrd u 18 b 1 = some (b + 2) ∧ jrd u 18 b 6 = some (o 2 2 0) ∧ jrd u 18 b 5 = some (b + 4) ∧ jrd u 18 b 4 = some (o 2 1 0) ∧ jrd u 18 b 3 = some (b + 3) := by
  obtain ⟨h1, h2, h3, h4, h5⟩ := h
  obtain ⟨⟨b0, b1⟩, ⟨a1, a2, a3, a4, a5⟩, ⟨c1, c2, c3, c4⟩, ⟨d1, d2, d3, d4, d5⟩, ⟨f1, f2, f3, f4, f5⟩⟩ := T34 h2
  obtain ⟨e1, e2⟩ := a5 x x0 x1
  obtain ⟨i1, i2, i3, i4, i5⟩ := T35 e2
  obtain ⟨k1, k2⟩ := h3.2.1 x x0 x1
  obtain ⟨m1, m2, m3⟩ := h3.2.2.2.1
  refine ⟨by rw [jrd_in b0 b1, a1], ?_, by rw [jrd_in i1 i2, k1], by rw [jrd_in i1 i2, k2], by rw [jrd_in i1 i2, i3], by rw [jrd_in b0 b1, m1], by rw [jrd_in b0 b1, c1], by rw [jrd_in b0 b1, m3], by rw [jrd_in b0 b1, f1], by rw [jrd_in b0 b1, m2], by rw [jrd_in b0 b1, d1]⟩
  unfold jld; rw [if_pos ⟨a2, a3, x0, by omega⟩, e1]
theorem r_byte (h : wH u V b o) (x0 : 0 ≤ x) (x1 : x < 3) (y0 : 0 ≤ y) (y1 : y < o 1 x 0) : jld u 1001 (((b + 1) + 4 + 2 * x) + 1) y = some (sb (o 0 x y)) ∧ 0 ≤ o 0 x y ∧ o 0 x y < 256 := by
  obtain ⟨h1, h2, h3, h4, h5⟩ := h
  obtain ⟨-, ⟨a1, a2, a3, a4, a5⟩, -⟩ := T34 h2
  obtain ⟨i1, i2, i3, i4, i5⟩ := T35 (a5 x x0 (by omega)).2
  have hl := h3.1 x x0 (by omega)
  rw [if_neg (by omega)] at hl
  have hv := (h4.1 x x0 (by omega)).2.1
  rw [if_neg (by omega)] at hv
  refine ⟨?_, h4.2.1 x y x0 x1 y0 y1⟩
  unfold jld; rw [if_pos ⟨i4, i5, y0, by rw [hl]; omega⟩, h3.2.2.1 x y x0 x1 y0 y1]
theorem r_start (h : wH u V b o) (y0 : 0 ≤ y) (y1 : y < o 2 0 0) : jld u 1003 (b + 2) y = some (o 3 y 0) ∧ 0 ≤ o 3 y 0 ∧ o 3 y 0 ≤ 2046 := by
  obtain ⟨h1, h2, h3, h4, h5⟩ := h
  obtain ⟨-, -, ⟨c1, c2, c3, c4⟩, -⟩ := T34 h2
  have hv := h4.2.2.2.1 y y0 y1
  have hn := h4.2.2.1
  unfold vObN at hn
  refine ⟨?_, hv.1, hv.2.1⟩
  unfold jld; rw [if_pos ⟨c2, c3, y0, by omega⟩, h3.2.2.2.2.1 y y0 y1]
theorem r_sym (h : wH u V b o) (y0 : 0 ≤ y) (y1 : y < o 2 1 0) : jld u 1014 (b + 3) y = some ((b + 3) + 10 + 3 * y) ∧ (0 ≤ (b + 3) + 10 + 3 * y ∧ jK u ((b + 3) + 10 + 3 * y) = 20) ∧ cSy u ((b + 3) + 10 + 3 * y) (o 4 y) ∧ vSy (o 4 y) ∧ jf u 20 ((b + 3) + 10 + 3 * y) 0 = ((b + 3) + 10 + 3 * y) + 1 ∧ jTt u 37 (((b + 3) + 10 + 3 * y) + 1) := by
  obtain ⟨h1, h2, h3, h4, h5⟩ := h
  obtain ⟨-, -, -, ⟨d1, d2, d3, d4, d5⟩, -⟩ := T34 h2
  have hn := h4.2.2.1
  unfold vObN at hn
  obtain ⟨e1, e2⟩ := d5 y y0 (by omega)
  obtain ⟨i1, i2, i3, i4⟩ := T36 e2
  refine ⟨?_, ⟨i1, i2⟩, h3.2.2.2.2.2.1 y y0 y1, h4.2.2.2.2.1 y y0 y1, i3, i4⟩
  unfold jld; rw [if_pos ⟨d2, d3, y0, by omega⟩, e1]
theorem r_rel (h : wH u V b o) (y0 : 0 ≤ y) (y1 : y < o 2 2 0) : jld u 1012 (b + 4) y = some ((b + 4) + 309 + 1 * y) ∧ (0 ≤ (b + 4) + 309 + 1 * y ∧ jK u ((b + 4) + 309 + 1 * y) = 22) ∧ cRl u ((b + 4) + 309 + 1 * y) (o 5 y) ∧ vRl (o 2 1 0) (o 5 y) := by
  obtain ⟨h1, h2, h3, h4, h5⟩ := h
  obtain ⟨-, -, -, -, ⟨f1, f2, f3, f4, f5⟩⟩ := T34 h2
  have hn := h4.2.2.1
  unfold vObN at hn
  obtain ⟨e1, e2⟩ := f5 y y0 (by omega)
  obtain ⟨i1, i2⟩ := T38 e2
  refine ⟨?_, ⟨i1, i2⟩, h3.2.2.2.2.2.2 y y0 y1, h4.2.2.2.2.2 y y0 y1⟩
  unfold jld; rw [if_pos ⟨f2, f3, y0, by omega⟩, e1]
/-- bytes up to a part's end -/
def gaps (o : Int → Int → Int → Int) (g : Int → Int) (i k : Nat) : Prop := ∀ j : Nat, i ≤ j → j < k → ∀ p, qO o j ≤ p → p < bO o j → g p = 0
theorem al_lo (v : vOb o) (k : Nat) : 0 < alO o k ∧ alO o k ≤ 64 := by
  unfold alO
  by_cases c : k < 3
  · rw [if_pos c]
    have := (v.1 k (by omega) (by omega)).2.2.lo
    omega
  · rw [if_neg c]; split
    · omega
    · split <;> omega
theorem sb_256 {v : Int} (h0 : 0 ≤ v) (h1 : v < 256) : sb v % 256 = v := sb_mod h0 h1
theorem c_sec1 (h : wH s V b o) {X : Nat} (hX : X < 3) (S : wS s u V o g X (qO o X)) : jE (b_X20_sections_2 u V b X) fun r => ∃ u' g', r = .inl (u', [V, b, (X : Int) + 1]) ∧ wS s u' V o g' (X + 1) (qO o (X + 1)) ∧ (∀ i, i < qO o X → g' i = g i) ∧ (∀ p, qO o X ≤ p → p < bO o X → g' p = 0) ∧ ∀ k, 0 ≤ k → k < o 1 X 0 → g' (bO o X + k) = o 0 X k := by
  have H := h.keep S.1
  obtain ⟨r1, r2, r3, r4, r5, -⟩ := r_sec H (x := X) (by omega) (by omega)
  obtain ⟨v1, v2, v3⟩ := h.2.2.2.1.1 X (by omega) (by omega)
  rw [if_neg (by omega)] at v2
  have ea : alO o X = o 1 X 1 := by unfold alO; rw [if_pos hX]
  have el : lnO o X = o 1 X 0 := by unfold lnO; rw [if_pos hX]
  have a0 := v3.lo
  obtain ⟨i1, i2, i3, i4, i5, i6⟩ := in_tot h.2.2.2.1 (k := X) (by omega)
  unfold b_X20_sections_2
  rw [if_pos (by omega), r1, Option.bind_some, r2, Option.bind_some, r4, Option.bind_some, W32_in (by omega) (by omega)]
  refine jS_call (c_begin S (by omega) (by omega) (th_low (by omega)) rfl ea.symm (by omega) (by omega)) fun q ⟨g1, k1, w1, e1, t1, f1, y1, y2⟩ => ?_
  rw [eu_X20_sections_28]; unfold du_X20_sections_28
  have M0 := wM.of (K := X) k1 w1 e1 t1 f1
  refine jS_for (fun k t => ∃ g2, wM s t V o g2 X (bO o X + k) ∧ (∀ i, i < bO o X → g2 i = g1 i) ∧ ∀ j, 0 ≤ j → j < k → g2 (bO o X + j) = o 0 X j) (fun k => [V, b, (X : Int), (b + 1) + 4 + 2 * (X : Int), k]) 0 (o 1 X 0) v1 ⟨g1, by rw [Int.add_zero]; exact M0, fun _ _ => rfl, fun j j0 j1 => by omega⟩ (fun k t k0 k2 ⟨g2, e2, e3, e4⟩ => ?_) (fun t ⟨g2, e2, e3, e4⟩ => ?_)
  · show jE (b_X20_sections_28 t V b X _ k) _
    unfold b_X20_sections_28
    have H := h.keep e2.1
    obtain ⟨r1, r2, r3, r4, r5, -⟩ := r_sec H (x := X) (by omega) (by omega)
    obtain ⟨z1, z2, z3⟩ := r_byte H (x := X) (by omega) (by omega) k0 k2
    rw [r3, Option.bind_some, if_pos k2, r5, Option.bind_some, z1, Option.bind_some]
    refine jS_call (c_p1 e2.2.1 (by omega) _) fun q ⟨q1, q2⟩ => ?_
    rw [W32_in (by omega) (by omega)]
    have M := e2.pb q1 q2 (by omega)
    rw [Int.add_assoc] at M
    refine jS_end ⟨rfl, _, M, fun i i0 => by rw [gN_lo (by omega)]; exact e3 i i0, fun j j0 j1 => ?_⟩
    by_cases c : j = k
    · subst c; rw [gN_1, sb_256 z2 z3]
    · rw [gN_lo (by omega)]; exact e4 j j0 (by omega)
  · show jE (b_X20_sections_28 t V b X _ (o 1 X 0)) _
    unfold b_X20_sections_28
    have H := h.keep e2.1
    obtain ⟨r1, r2, r3, r4, r5, -⟩ := r_sec H (x := X) (by omega) (by omega)
    rw [r3, Option.bind_some, if_neg (by omega), eu_X20_sections_57]; unfold du_X20_sections_57
    rw [W32_in (by omega) (by omega)]
    refine jS_inr (jS_call (c_end e2 (by omega) (by omega) (by rw [el])) fun q hq => ?_)
    rw [← el, ← i3] at hq
    exact jS_end ⟨q.1, g2, rfl, hq, fun i i0 => by rw [e3 i (by omega)]; exact y1 i i0, fun p p0 p1 => by rw [e3 p p1]; exact y2 p p0 p1, e4⟩
theorem c_sections (h : wH s V b o) (S : wS s u V o g 0 52) : jE (m_X20_sections u V b) fun q => ∃ g', wS s q.1 V o g' 4 (qO o 4) ∧ (∀ i, i < 52 → g' i = g i) ∧ pSc o g' ∧ gaps o g' 0 4 := by
  have v := h.2.2.2.1
  rw [em_X20_sections]; unfold dm_X20_sections
  rw [eu_X20_sections_2]; unfold du_X20_sections_2
  refine jS_for (fun k t => ∃ g1, wS s t V o g1 k.toNat (qO o k.toNat) ∧ (∀ i, i < 52 → g1 i = g i) ∧ (∀ x : Nat, (x : Int) < k → ∀ i, 0 ≤ i → i < o 1 x 0 → g1 (bO o x + i) = o 0 x i) ∧ gaps o g1 0 k.toNat) (fun k => [V, b, k]) 0 3 (by omega) ⟨g, S, fun _ _ => rfl, fun x hx => by omega, fun j j0 j1 => absurd j1 (Nat.not_lt_zero j)⟩ (fun k t k0 k1 ⟨g1, e1, e2, e3, e4⟩ => ?_) (fun t ⟨g1, e1, e2, e3, e4⟩ => ?_)
  · show jE (b_X20_sections_2 t V b k) _
    have hs := c_sec1 h (X := k.toNat) (by omega) e1
    rw [nt k0] at hs
    refine jE_mono hs fun r ⟨u', g', er, w, y1, y2, y3⟩ => ?_
    subst er
    have hq := qO_lo v k.toNat
    rw [show k.toNat + 1 = (k + 1).toNat by omega] at w
    refine ⟨rfl, g', w, fun i i0 => by rw [y1 i (by omega)]; exact e2 i i0, fun x hx i i0 i1 => ?_, fun j j0 j1 p p0 p1 => ?_⟩
    · by_cases c : (x : Int) = k
      · have : k.toNat = x := by omega
        rw [this, ← c] at y3
        exact y3 i i0 i1
      · have i3 := (in_tot v (k := x) (by omega)).2.2.1
        have m := qO_mono v (i := x + 1) (j := k.toNat) (by omega)
        have el : lnO o x = o 1 x 0 := by unfold lnO; rw [if_pos (by omega)]
        rw [y1 _ (by omega)]; exact e3 x (by omega) i i0 i1
    · by_cases c : j = k.toNat
      · subst c; exact y2 p p0 p1
      · have m := qO_mono v (i := j + 1) (j := k.toNat) (by omega)
        have i3 := in_tot v (k := j) (by omega)
        rw [y1 _ (by omega)]; exact e4 j j0 (by omega) p p0 p1
  · show jE (b_X20_sections_2 t V b 3) _
    unfold b_X20_sections_2
    rw [if_neg (by omega), eu_X20_sections_70]; unfold du_X20_sections_70
    refine jS_inr ?_
    have H := h.keep e1.1
    obtain ⟨i1, i2, i3, i4, i5, i6⟩ := in_tot v (k := 3) (by omega)
    have b3 : bO o 3 = qO o 3 := by
      unfold bO; rw [if_pos (th_low (by omega))]
      exact rU_eq (show (0 : Int) < 1 by decide) (Int.emod_one _)
    have l3 : lnO o 3 = 0 := rfl
    have q4 : qO o 4 = qO o 3 := by have := (in_tot2 v (k := 3) (k' := 4) (by omega) rfl).2.2.1; omega
    have vb := h.2.2.2.1.1 3 (by omega) (by omega)
    rw [if_pos rfl] at vb
    have S3 : wS s t V o g1 3 (qO o 3) := e1
    have hq3 := qO_lo v 3
    have hz : 0 ≤ jf t 23 (V + 1) 1 ∧ jf t 23 (V + 1) 1 ≤ 8193 ∧ (qO o 3 ≤ 8193 → jf t 23 (V + 1) 1 = qO o 3) := by
      obtain ⟨-, z1, z2⟩ := S3.2.1
      rcases z2 with ⟨z2, z3, z4, -⟩ | ⟨z2, z3, z4⟩
      · rw [z4]; exact ⟨by omega, by omega, fun _ => rfl⟩
      · rw [z4]; exact ⟨by omega, by omega, fun z => by omega⟩
    obtain ⟨h1, h2, h3, h4, h5⟩ := H
    rw [jst_in (by omega) (by omega), Option.bind_some]
    have k2 : jFx t (jp t 1000 (V + 4) 4 (jf t 23 (V + 1) 1)) (V + 4) 1 := jFx.rfl.jp rfl (by omega) (by omega)
    have H2 : wH (jp t 1000 (V + 4) 4 (jf t 23 (V + 1) 1)) V b o := wH.keep ⟨h1, h2, h3, h4, h5⟩ (k2.wide (by omega) (by omega))
    obtain ⟨r1, r2, r3, r4, r5, -⟩ := r_sec H2 (x := 3) (by omega) (by omega)
    rw [jct_in H2.2.1, e_X14_room _ _ _ (by omega), Option.bind_some, (H2.2.2.1.2.1 3 (by omega) (by omega)).1, jst_in (by omega) (by omega), Option.bind_some]
    have k3 : jFx (jp t 1000 (V + 4) 4 (jf t 23 (V + 1) 1)) (jp (jp t 1000 (V + 4) 4 (jf t 23 (V + 1) 1)) 1000 (V + 5) 4 (W32 (jf (jp t 1000 (V + 4) 4 (jf t 23 (V + 1) 1)) 23 (V + 1) 1 + o 1 3 0))) (V + 5) 1 := jFx.rfl.jp rfl (by omega) (by omega)
    have H3 := H2.keep (k3.wide (by omega) (by omega))
    obtain ⟨r1, r2, r3, r4, r5, -⟩ := r_sec H3 (x := 3) (by omega) (by omega)
    rw [r1, Option.bind_some, r2, Option.bind_some, r4, Option.bind_some, jst_in (by omega) (by omega), Option.bind_some]
    rw [jf_neg (by omega), W32_in (by omega) (by omega)]
    have kk : jFx t (jp (jp (jp t 1000 (V + 4) 4 (jf t 23 (V + 1) 1)) 1000 (V + 5) 4 (jf t 23 (V + 1) 1 + o 1 3 0)) 1000 (V + 6) 4 (o 1 3 1)) (V + 4) 3 := ((jFx.rfl.jp rfl (by omega) (by omega)).jp rfl (by omega) (by omega)).jp rfl (by omega) (by omega)
    refine jS_end ⟨g1, ⟨S3.1.trans (kk.wide (by omega) (by omega)), by rw [q4]; exact S3.2.1.kf kk (by omega), ⟨fun i hi => by (repeat (first | rw [jf_neg (by omega)] | rw [jf_pos (by omega)] | rw [ou_neg (by omega)] | rw [ou_pos (by omega)])); exact S3.2.2.1.1 i hi, by (repeat (first | rw [jf_neg (by omega)] | rw [jf_pos (by omega)] | rw [ou_neg (by omega)] | rw [ou_pos (by omega)])); exact S3.2.2.1.2⟩, fun i hi c => ?_⟩, e2, fun x hx i i0 i1' => e3 x (by omega) i i0 i1', fun j j0 j1 p p0 p1 => ?_⟩
    · unfold wT1
      rw [q4]
      by_cases ei : i = 3
      · subst ei
        rw [show ((3 : Nat) : Int) + 1 = 4 from rfl]
        refine ⟨by (repeat (first | rw [jf_neg (by omega)] | rw [jf_pos (by omega)] | rw [ou_neg (by omega)] | rw [ou_pos (by omega)])); exact hz.1, by (repeat (first | rw [jf_neg (by omega)] | rw [jf_pos (by omega)] | rw [ou_neg (by omega)] | rw [ou_pos (by omega)])); exact hz.2.1, fun z => ⟨by (repeat (first | rw [jf_neg (by omega)] | rw [jf_pos (by omega)] | rw [ou_neg (by omega)] | rw [ou_pos (by omega)])); rw [hz.2.2 z, b3], by (repeat (first | rw [jf_neg (by omega)] | rw [jf_pos (by omega)] | rw [ou_neg (by omega)] | rw [ou_pos (by omega)])); rw [hz.2.2 z, b3]; rfl⟩, by (repeat (first | rw [jf_neg (by omega)] | rw [jf_pos (by omega)] | rw [ou_neg (by omega)] | rw [ou_pos (by omega)])); rfl⟩
      · obtain ⟨c1, c2, c3, c4⟩ := S3.2.2.2 i (by omega) c
        have : ¬ (i : Int) + 1 = 4 := by omega
        refine ⟨by (repeat (first | rw [jf_neg (by omega)] | rw [jf_pos (by omega)] | rw [ou_neg (by omega)] | rw [ou_pos (by omega)])); exact c1, by (repeat (first | rw [jf_neg (by omega)] | rw [jf_pos (by omega)] | rw [ou_neg (by omega)] | rw [ou_pos (by omega)])); exact c2, fun z => ⟨by (repeat (first | rw [jf_neg (by omega)] | rw [jf_pos (by omega)] | rw [ou_neg (by omega)] | rw [ou_pos (by omega)])); exact (c3 z).1, by (repeat (first | rw [jf_neg (by omega)] | rw [jf_pos (by omega)] | rw [ou_neg (by omega)] | rw [ou_pos (by omega)])); exact (c3 z).2⟩, by (repeat (first | rw [jf_neg (by omega)] | rw [jf_pos (by omega)] | rw [ou_neg (by omega)] | rw [ou_pos (by omega)])); exact c4⟩
    · by_cases c : j = 3
      · subst c; omega
      · exact e4 j j0 (by show j < 3; omega) p p0 p1
theorem c_starts (h : wH s V b o) (ht : th o 4 = true) (S : wS s u V o g 4 (qO o 4)) : jE (m_X20_starts u V b) fun q => ∃ g', wS s q.1 V o g' 5 (qO o 5) ∧ (∀ i, i < qO o 4 → g' i = g i) ∧ (∀ p, qO o 4 ≤ p → p < bO o 4 → g' p = 0) ∧ pSs o g' := by
  have v := h.2.2.2.1
  have hn := v.2.2.1
  unfold vObN at hn
  obtain ⟨i1, i2, i3, i4, i5, i6⟩ := in_tot2 v (k := 4) (k' := 5) (by omega) rfl
  have el : lnO o 4 = 2 * o 2 0 0 := rfl
  have hq := qO_lo v 5
  rw [em_X20_starts]; unfold dm_X20_starts
  refine jS_call (c_begin S (by omega) (by omega) ht rfl (show (2 : Int) = alO o 4 from rfl) (by omega) (by omega)) fun q ⟨g1, k1, w1, e1, t1, f1, y1, y2⟩ => ?_
  rw [eu_X20_starts_8]; unfold du_X20_starts_8
  have M0 := wM.of (K := 4) k1 w1 e1 t1 f1
  refine jS_for (fun k t => ∃ g2, wM s t V o g2 4 (bO o 4 + 2 * k) ∧ (∀ i, i < bO o 4 → g2 i = g1 i) ∧ ∀ j, 0 ≤ j → j < k → B2 g2 (bO o 4 + 2 * j) (o 3 j 0)) (fun k => [V, b, k]) 0 (o 2 0 0) (by omega) ⟨g1, by rw [show bO o 4 + 2 * 0 = bO o 4 by omega]; exact M0, fun _ _ => rfl, fun j j0 j1 => by omega⟩ (fun k t k0 k2 ⟨g2, e2, e3, e4⟩ => ?_) (fun t ⟨g2, e2, e3, e4⟩ => ?_)
  · show jE (b_X20_starts_8 t V b k) _
    unfold b_X20_starts_8
    have H := h.keep e2.1
    obtain ⟨-, -, -, -, -, r6, r7, -⟩ := r_sec H (x := 0) (by omega) (by omega)
    obtain ⟨z1, z2, z3⟩ := r_start H k0 k2
    rw [r6, Option.bind_some, if_pos k2, r7, Option.bind_some, z1, Option.bind_some]
    refine jS_call (c_p2 e2.2.1 (by omega) (jin_of (by omega) (by omega))) fun q ⟨q1, q2⟩ => ?_
    rw [W32_in (by omega) (by omega)]
    have M := e2.pb q1 q2 (by omega)
    rw [show bO o 4 + 2 * k + 2 = bO o 4 + 2 * (k + 1) by omega] at M
    refine jS_end ⟨rfl, _, M, fun i i0 => by rw [gN_lo (by omega)]; exact e3 i i0, fun j j0 j1 => ?_⟩
    by_cases c : j = k
    · subst c; exact gN_2
    · exact (e4 j j0 (by omega)).gn (by omega)
  · show jE (b_X20_starts_8 t V b (o 2 0 0)) _
    unfold b_X20_starts_8
    have H := h.keep e2.1
    obtain ⟨-, -, -, -, -, r6, r7, -⟩ := r_sec H (x := 0) (by omega) (by omega)
    rw [r6, Option.bind_some, if_neg (by omega), eu_X20_starts_35]; unfold du_X20_starts_35
    rw [← el] at e2
    refine jS_inr (jS_call (c_end e2 (by omega) (by omega) rfl) fun q hq => ?_)
    rw [← i3] at hq
    exact jS_end ⟨g2, hq, fun i i0 => by rw [e3 i (by omega)]; exact y1 i i0, fun p p0 p1 => by rw [e3 p p1]; exact y2 p p0 p1, e4⟩
/-- relocations of a section -/
theorem c_moves (h : wH s V b o) {X : Nat} (hX : X < 3) (ht : th o (5 + X) = true) (S : wS s u V o g (5 + X) (qO o (5 + X))) : jE (m_X20_moves u V b X) fun q => ∃ g', wS s q.1 V o g' (6 + X) (qO o (6 + X)) ∧ (∀ i, i < qO o (5 + X) → g' i = g i) ∧ (∀ p, qO o (5 + X) ≤ p → p < bO o (5 + X) → g' p = 0) ∧ ∀ k, 0 ≤ k → k < o 2 2 0 → o 5 k 0 = X → pRl o g' k := by
  have v := h.2.2.2.1
  have hn := v.2.2.1
  unfold vObN at hn
  obtain ⟨i1, i2, i3, i4, i5, i6⟩ := in_tot2 v (k := 5 + X) (k' := 6 + X) (by omega) (by omega)
  have el : lnO o (5 + X) = 12 * cn (ofS o X) (o 2 2 0) := by
    have : X = 0 ∨ X = 1 ∨ X = 2 := by omega
    rcases this with rfl | rfl | rfl <;> rfl
  have ea : alO o (5 + X) = 4 := by
    have : X = 0 ∨ X = 1 ∨ X = 2 := by omega
    rcases this with rfl | rfl | rfl <;> rfl
  have hq := qO_lo v (6 + X)
  rw [em_X20_moves]; unfold dm_X20_moves
  rw [W32_in (by omega) (by omega), show (6 : Int) + (X : Int) = ((5 + X : Nat) : Int) + 1 by omega]
  refine jS_call (c_begin S (by omega) (by omega) ht rfl ea.symm (by omega) (by omega)) fun q ⟨g1, k1, w1, e1, t1, f1, y1, y2⟩ => ?_
  rw [eu_X20_moves_11]; unfold du_X20_moves_11
  have M0 := wM.of (K := 5 + X) k1 w1 e1 t1 f1
  refine jS_for (fun k t => ∃ g2, wM s t V o g2 (5 + X) (bO o (5 + X) + 12 * cn (ofS o X) k) ∧ (∀ i, i < bO o (5 + X) → g2 i = g1 i) ∧ ∀ j, 0 ≤ j → j < k → o 5 j 0 = X → pRl o g2 j) (fun k => [V, b, (X : Int), k]) 0 (o 2 2 0) (by omega) ⟨g1, by rw [cn_0, show bO o (5 + X) + 12 * 0 = bO o (5 + X) by omega]; exact M0, fun _ _ => rfl, fun j j0 j1 => by omega⟩ (fun k t k0 k2 ⟨g2, e2, e3, e4⟩ => ?_) (fun t ⟨g2, e2, e3, e4⟩ => ?_)
  · show jE (b_X20_moves_11 t V b X k) _
    unfold b_X20_moves_11
    have H := h.keep e2.1
    obtain ⟨-, -, -, -, -, -, -, r8, r9, -⟩ := r_sec H (x := 0) (by omega) (by omega)
    obtain ⟨z1, ⟨z2, z3⟩, ⟨z4, z5, z6, z7, z8⟩, z9⟩ := r_rel H k0 k2
    have hc := cn_lo (P := ofS o X) k0
    have hs := cn_s (P := ofS o X) k0
    have eo : ofS o X k = true ↔ o 5 k 0 = X := by unfold ofS; simp
    rw [r8, Option.bind_some, if_pos k2, r9, Option.bind_some, z1, Option.bind_some, jrd_in z2 z3, Option.bind_some, z4]
    by_cases c : o 5 k 0 = X
    · rw [if_pos (eo.mpr c)] at hs
      rw [if_pos c, jrd_in z2 z3, Option.bind_some, z5]
      unfold vRl at z9
      obtain ⟨v1, v2, v3, v4, v5, v6, v7, v8, v9⟩ := z9
      refine jS_call (c_p4 e2.2.1 (by omega) (jin_of (by omega) (by omega))) fun q1 ⟨q1a, q1b⟩ => ?_
      have M1 := e2.pb q1a q1b (by omega)
      have H1 := h.keep M1.1
      obtain ⟨-, ⟨z2, z3⟩, ⟨z4, z5, z6, z7, z8⟩, -⟩ := r_rel H1 k0 k2
      -- the number of a symbol
      have tail : ∀ w, w = (if o 5 k 3 = -1 then 0 else 1 + tn o (o 5 k 3)) → jE (u_X20_moves_79 q1.1 V b X k (b + 4 + 309 + 1 * k) w (V + 1)) fun x => match x with
          | .inl q => q.2 = [V, b, (X : Int), k + 1] ∧ ∃ g2, wM s q.1 V o g2 (5 + X) (bO o (5 + X) + 12 * cn (ofS o X) (k + 1)) ∧ (∀ i, i < bO o (5 + X) → g2 i = g1 i) ∧ ∀ j, 0 ≤ j → j < k + 1 → o 5 j 0 = X → pRl o g2 j
          | .inr _ => False := by
        intro w hw
        have hw0 : 0 ≤ w ∧ w ≤ 100 := by
          rw [hw]; split
          · omega
          · have := tn_lo (o := o) (x := o 5 k 3) (by omega) (by omega)
            omega
        have hk : 0 ≤ o 5 k 2 ∧ o 5 k 2 < 256 := by unfold kOK at v5; omega
        rw [eu_X20_moves_79]; unfold du_X20_moves_79
        rw [jrd_in z2 z3, Option.bind_some, z6]
        have ei : I_or (I_shl w 8) (o 5 k 2) = iRl o k := by
          rw [show I_shl w 8 = w * 256 from shl_n 8 (by decide) (by decide) (by omega) (by omega), I_or_hi 8 (by decide) (by omega) hk.1 hk.2, W32_in (by omega) (by omega)]
          unfold iRl; rw [hw]; split <;> omega
        have hi : 0 ≤ iRl o k ∧ iRl o k ≤ 30000 := by unfold iRl; rw [← hw]; omega
        rw [ei]
        refine jS_call (c_p4 M1.2.1 (by omega) (jin_of (by omega) (by omega))) fun q2 ⟨q2a, q2b⟩ => ?_
        have M2 := M1.pb q2a q2b (by omega)
        have H2 := h.keep M2.1
        obtain ⟨-, ⟨z2, z3⟩, ⟨z4, z5, z6, z7, z8⟩, -⟩ := r_rel H2 k0 k2
        rw [jrd_in z2 z3, Option.bind_some, z8]
        refine jS_call (c_p4 M2.2.1 (by omega) v8) fun q3 ⟨q3a, q3b⟩ => ?_
        have M3 := M2.pb q3a q3b (by omega)
        rw [eu_X20_moves_103]; unfold du_X20_moves_103
        rw [W32_in (by omega) (by omega)]
        have ep : bO o (5 + X) + 12 * cn (ofS o X) k + 4 + 4 + 4 = bO o (5 + X) + 12 * cn (ofS o X) (k + 1) := by omega
        rw [ep] at M3
        refine jS_end ⟨rfl, _, M3, fun i i0 => by rw [gN_lo (by omega), gN_lo (by omega), gN_lo (by omega)]; exact e3 i i0, fun j j0 j1 hj => ?_⟩
        have ad : ∀ j, o 5 j 0 = X → aRl o j = bO o (5 + X) + 12 * cn (ofS o X) j := fun j hj => by
          unfold aRl; rw [hj, show (X : Int).toNat = X by omega]
        by_cases cj : j = k
        · subst cj
          unfold pRl
          rw [ad j hj]
          refine ⟨?_, ?_, ?_⟩
          · repeat (first | exact gN_4 | refine B4.gn ?_ (by omega))
          · repeat (first | exact gN_4 | refine B4.gn ?_ (by omega))
          · rw [show bO o (5 + X) + 12 * cn (ofS o X) j + 8 = bO o (5 + X) + 12 * cn (ofS o X) j + 4 + 4 by omega]; exact gN_4
        · obtain ⟨p1, p2, p3⟩ := e4 j j0 (by omega) hj
          have hlt := cn_lt (P := ofS o X) j0 (show j < k by omega) (by unfold ofS; simp [hj])
          have had := ad j hj
          exact ⟨((p1.gn (by omega)).gn (by omega)).gn (by omega), ((p2.gn (by omega)).gn (by omega)).gn (by omega), ((p3.gn (by omega)).gn (by omega)).gn (by omega)⟩
      rw [jrd_in z2 z3, Option.bind_some, z7]
      by_cases c3 : o 5 k 3 = -1
      · rw [if_pos c3]
        exact jE_mono (tail 0 (by rw [if_pos c3])) fun x hx => by
          rcases x with q | r
          · exact hx
          · exact hx.elim
      · rw [if_neg c3, Option.bind_some, c_rank H1.2.2.1 v (by omega) (by omega), jct_in H1.2.1, Option.bind_some]
        have := tn_lo (o := o) (x := o 5 k 3) (by omega) (by omega)
        rw [W32_in (by omega) (by omega)]
        exact jE_mono (tail _ (by rw [if_neg c3])) fun x hx => by
          rcases x with q | r
          · exact hx
          · exact hx.elim
    · rw [if_neg (fun z => c (eo.mp z))] at hs
      rw [if_neg c, eu_X20_moves_103]; unfold du_X20_moves_103
      rw [W32_in (by omega) (by omega)]
      refine jS_end ⟨rfl, g2, by rw [hs, Int.add_zero]; exact e2, e3, fun j j0 j1 hj => e4 j j0 (by
        have : ¬ j = k := fun z => c (by rw [← z]; exact hj)
        omega) hj⟩
  · show jE (b_X20_moves_11 t V b X (o 2 2 0)) _
    unfold b_X20_moves_11
    have H := h.keep e2.1
    obtain ⟨-, -, -, -, -, -, -, r8, r9, -⟩ := r_sec H (x := 0) (by omega) (by omega)
    rw [r8, Option.bind_some, if_neg (by omega), eu_X20_moves_109]; unfold du_X20_moves_109
    rw [W32_in (by omega) (by omega), show (6 : Int) + (X : Int) = ((5 + X : Nat) : Int) + 1 by omega]
    rw [← el] at e2
    refine jS_inr (jS_call (c_end e2 (by omega) (by omega) rfl) fun q hq => ?_)
    rw [← i3, show 5 + X + 1 = 6 + X by omega] at hq
    exact jS_end ⟨g2, hq, fun i i0 => by rw [e3 i (by omega)]; exact y1 i i0, fun p p0 p1 => by rw [e3 p p1]; exact y2 p p0 p1, e4⟩
end jCwrite2
