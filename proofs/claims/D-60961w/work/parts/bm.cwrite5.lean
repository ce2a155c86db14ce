/-! the component writes a file: all of it; files of one object are the same -/
section jCwrite5
variable {s t u : jS} {N L V O p n v f a b x y lo : Int} {g g' g1 g2 g3 g4 g5 g6 g7 g8 g9 : Int → Int} {o : Int → Int → Int → Int} {K : Nat}
theorem q_skip (v : vOb o) {k : Nat} (h4 : 4 ≤ k) (h8 : k < 8) (ht : ¬ th o k = true) : qO o (k + 1) = qO o k ∧ bO o k = qO o k ∧ lnO o k = 0 := by
  have h1 := lnO_lo v k
  have h2 : ¬ 0 < lnO o k := fun z => ht ((th_ln v h4 h8).mpr z)
  have h3 : bO o k = qO o k := by unfold bO; rw [if_neg ht]
  have h5 := (bO_lo v k).2.2
  omega
theorem wS_skip (v : vOb o) {k : Nat} (h4 : 4 ≤ k) (h8 : k < 8) (ht : ¬ th o k = true) (S : wS s u V o g k (qO o k)) : wS s u V o g (k + 1) (qO o (k + 1)) := by
  rw [(q_skip v h4 h8 ht).1]
  exact ⟨S.1, S.2.1, S.2.2.1, fun i hi c => by
    by_cases e : i = k
    · subst e; exact absurd c ht
    · exact S.2.2.2 i (by omega) c⟩
/-- up to a place the same -/
theorem c_mv3 (h : wH s V b o) (S : wS s u V o g 5 (qO o 5)) {Q : jS × Int → Prop} (cont : ∀ t g', wS s t V o g' 8 (qO o 8) → (∀ i, i < qO o 5 → g' i = g i) → gaps o g' 5 8 → (∀ x, 0 ≤ x → x < o 2 2 0 → pRl o g' x) → jE (u_X20_write_67 t V b) Q) : jE (u_X20_write_36 u V b) Q := by
  have v := h.2.2.2.1
  rw [eu_X20_write_36]; unfold du_X20_write_36
  rw [eu_X20_write_38]; unfold du_X20_write_38
  refine jS_for (fun k t => ∃ g1, wS s t V o g1 (5 + k.toNat) (qO o (5 + k.toNat)) ∧ (∀ i, i < qO o 5 → g1 i = g i) ∧ gaps o g1 5 (5 + k.toNat) ∧ ∀ x, 0 ≤ x → x < o 2 2 0 → o 5 x 0 < k → pRl o g1 x) (fun k => [V, b, k]) 0 3 (by omega) ⟨g, S, fun _ _ => rfl, fun j j0 j1 => absurd j1 (by have : (0 : Int).toNat = 0 := rfl; omega), fun x x0 x1 hx => by
      have := (v.2.2.2.2.2 x x0 x1).1
      omega⟩ (fun k t k0 k1 ⟨g1, e1, e2, e3, e4⟩ => ?_) (fun t ⟨g1, e1, e2, e3, e4⟩ => ?_)
  · show jE (b_X20_write_38 t V b k) _
    unfold b_X20_write_38
    have hE := e1.2.2.1.1 (5 + k.toNat) (by omega)
    rw [show ((5 + k.toNat : Nat) : Int) + 1 = 6 + k by omega] at hE
    have hz := en_z (o := o) (5 + k.toNat)
    have hl := en_lo (o := o) (5 + k.toNat)
    have hq := qO_mono v (i := 5) (j := 5 + k.toNat) (by omega)
    have hi := in_tot2 v (k := 5 + k.toNat) (k' := 6 + k.toNat) (by omega) (by omega)
    have ek : (k + 1).toNat = k.toNat + 1 := by omega
    rw [if_pos k1, W32_in (z := 6 + k) (by omega) (by omega), jlt_in (by omega) (by omega), Option.bind_some, hE]
    simp only [eu_X20_write_61, du_X20_write_61]
    rw [W32_in (by omega) (by omega)]
    by_cases c : th o (5 + k.toNat) = true
    · have hm := c_moves h (X := k.toNat) (by omega) c e1
      rw [nt k0] at hm
      have hne : ¬ en o (5 + k.toNat) = 0 := fun z => hz.mp z c
      rw [if_pos (by omega)]
      refine jS_call hm fun q ⟨g', w, y1, y2, y3⟩ => ?_
      refine jS_end ⟨rfl, g', by rw [ek, show 5 + (k.toNat + 1) = 6 + k.toNat by omega]; exact w, fun i i0 => by rw [y1 i (by omega)]; exact e2 i i0, fun j j0 j1 p p0 p1 => ?_, fun x x0 x1 hx => ?_⟩
      · rw [ek] at j1
        by_cases cj : j = 5 + k.toNat
        · subst cj; exact y2 p p0 p1
        · have m := qO_mono v (i := j + 1) (j := 5 + k.toNat) (by omega)
          have hj := in_tot v (k := j) (by omega)
          rw [y1 p (by omega)]; exact e3 j j0 (by omega) p p0 p1
      · by_cases cx : o 5 x 0 = k
        · exact y3 x x0 x1 cx
        · have hv := v.2.2.2.2.2 x x0 x1
          refine (e4 x x0 x1 (by omega)).of v x0 x1 fun p p0 p1 => y1 p ?_
          have := qO_mono v (i := 6 + (o 5 x 0).toNat) (j := 5 + k.toNat) (by have := hv.1; omega)
          omega
    · have hne : en o (5 + k.toNat) = 0 := hz.mpr c
      rw [if_neg (by omega)]
      have w := wS_skip v (k := 5 + k.toNat) (by omega) (by omega) c e1
      have sk := q_skip v (k := 5 + k.toNat) (by omega) (by omega) c
      refine jS_end ⟨rfl, g1, by rw [ek, show 5 + (k.toNat + 1) = 5 + k.toNat + 1 by omega]; exact w, e2, fun j j0 j1 p p0 p1 => ?_, fun x x0 x1 hx => ?_⟩
      · rw [ek] at j1
        by_cases cj : j = 5 + k.toNat
        · subst cj; omega
        · exact e3 j j0 (by omega) p p0 p1
      · by_cases cx : o 5 x 0 = k
        · -- there is none
          exfalso
          have hn := v.2.2.1
          unfold vObN at hn
          have hc := cn_lt (P := ofS o k) x0 x1 (by unfold ofS; simp [cx])
          have hc0 := cn_lo (P := ofS o k) x0
          have el : lnO o (5 + k.toNat) = 12 * cn (ofS o k) (o 2 2 0) := by
            have : k = 0 ∨ k = 1 ∨ k = 2 := by omega
            rcases this with rfl | rfl | rfl <;> rfl
          omega
        · exact e4 x x0 x1 (by omega)
  · show jE (b_X20_write_38 t V b 3) _
    unfold b_X20_write_38
    rw [if_neg (by omega)]
    exact jS_inr (jE_mono (cont t g1 e1 e2 e3 fun x x0 x1 => e4 x x0 x1 (by have := (v.2.2.2.2.2 x x0 x1).2.1; omega)) fun _ hq => hq)
theorem B4.ag {q : Int} (h : B4 g q v) (e : ∀ i, q ≤ i → i < q + 4 → g' i = g i) : B4 g' q v := h.of e
theorem c_write (h : wH s V b o) (hC : pCon s) (nb : ¬ bd1 o) (hN : jN s (V + 2) = 8193) : jE (m_X20_write s V b) fun q => jFx s q.1 V 8 ∧ (8192 < totO o ∧ q.2 = 0 ∨ totO o ≤ 8192 ∧ q.2 = 1 ∧ ∃ g, wB q.1 (V + 1) 8193 g (totO o) ∧ pFi o g) := by
  have v := h.2.2.2.1
  obtain ⟨tb1, tb2, tb3, tb4⟩ := tab_lo v
  rw [em_X20_write]; unfold dm_X20_write
  -- nothing is put yet
  have k0 : jFx s (jp (jp s 23 (V + 1) 1 0) 23 (V + 1) 2 0) V 8 := (jFx.rfl.jp rfl (by omega) (by omega)).jp rfl (by omega) (by omega)
  have ec : m_X19_clear s (V + 1) = some (jp (jp s 23 (V + 1) 1 0) 23 (V + 1) 2 0, 0) := by
    rw [em_X19_clear]; unfold dm_X19_clear
    simp only [jls]
    rw [jzb_in (.inl rfl)]; rfl
  have w0 : wB (jp (jp s 23 (V + 1) 1 0) 23 (V + 1) 2 0) (V + 1) 8193 (fun _ => 0) 0 := ⟨by rw [show V + 1 + 1 = V + 2 by omega]; exact hN, Int.le_refl _, .inl ⟨by omega, by (repeat (first | rw [jf_neg (by omega)] | rw [jf_pos (by omega)] | rw [ou_neg (by omega)] | rw [ou_pos (by omega)])), by (repeat (first | rw [jf_neg (by omega)] | rw [jf_pos (by omega)] | rw [ou_neg (by omega)] | rw [ou_pos (by omega)])), fun i i0 i1 => by omega⟩⟩
  rw [ec, Option.bind_some]
  generalize jp (jp s 23 (V + 1) 1 0) 23 (V + 1) 2 0 = s0 at k0 w0
  refine jS_call (c_number (h.keep k0)) fun q1 ⟨k1, hE, hB⟩ => ?_
  have k01 := k0.trans k1
  have w1 : wB q1.1 (V + 1) 8193 (fun _ => 0) 0 := ⟨by rw [k1.N]; exact w0.1, Int.le_refl _, .inl ⟨by omega, by
    rw [hB _ _ _ (by omega) (by omega)]
    exact (w0.2.2.resolve_right (by omega)).2.1, by
    rw [hB _ _ _ (by omega) (by omega)]
    exact (w0.2.2.resolve_right (by omega)).2.2.1, fun i i0 i1 => by omega⟩⟩
  have H1 := h.keep k01
  refine jS_call (c_header H1 w1 hE nb) fun q2 ⟨g0, S0, a1, a2, a3, a4, a5, a6, a7, a9, a10, a11, a12, a13, a14⟩ => ?_
  refine jS_call (c_sections H1 S0) fun q3 ⟨g1, S1, b1, b2, b3⟩ => ?_
  have hE4 := S1.2.2.1.1 4 (by omega)
  rw [show ((4 : Nat) : Int) + 1 = 5 from rfl] at hE4
  rw [jlt_in (by omega) (by omega), Option.bind_some, hE4]
  have hz4 := en_z (o := o) 4
  have hl4 := en_lo (o := o) 4
  have hvn := v.2.2.1
  unfold vObN at hvn
  obtain ⟨q0, o1, o2, o3, o4, o5, o6, o7, o8, o9, o10, o11, o12, o13, o14, o15, o16, o17, o18, o19, o20, o21, o22, o23, o24⟩ := ordO v
  -- behind the starts
  have rest : ∀ t g2, wS q1.1 t V o g2 5 (qO o 5) → (∀ i, i < qO o 4 → g2 i = g1 i) → (∀ p, qO o 4 ≤ p → p < bO o 4 → g2 p = 0) → pSs o g2 → jE (u_X20_write_36 t V b) fun q => jFx s q.1 V 8 ∧ (8192 < totO o ∧ q.2 = 0 ∨ totO o ≤ 8192 ∧ q.2 = 1 ∧ ∃ g, wB q.1 (V + 1) 8193 g (totO o) ∧ pFi o g) := by
    intro t g2 S2 c1 c2 c3
    refine c_mv3 H1 S2 fun t3 g3 S3 d1 d2 d3 => ?_
    rw [eu_X20_write_67]; unfold du_X20_write_67
    refine jS_call (c_symbols H1 S3) fun q4 ⟨g4, S4, e1, e2, e3, e4⟩ => ?_
    refine jS_call (c_strings H1 S4) fun q5 ⟨g5, S5, f1⟩ => ?_
    have hC1 := hC.fx k01 (T40 h.1)
    refine jS_call (c_names H1 hC1 S5) fun q6 ⟨g6, S6, i1⟩ => ?_
    have bad : ∀ w g' p', jFx q1.1 w V 8 → wB w (V + 1) 8193 g' p' → 8192 < p' → 8192 < totO o → jE (u_X20_write_96 w V) fun q => jFx s q.1 V 8 ∧ (8192 < totO o ∧ q.2 = 0 ∨ totO o ≤ 8192 ∧ q.2 = 1 ∧ ∃ g, wB q.1 (V + 1) 8193 g (totO o) ∧ pFi o g) := by
      intro w g' p' kw hw hp ht
      rw [eu_X20_write_96]; unfold du_X20_write_96
      obtain ⟨-, z1, z2⟩ := hw
      rcases z2 with ⟨z2, z3, z4, -⟩ | ⟨z2, z3, z4⟩
      · rw [if_pos z3, z4, if_pos hp, Wz_0]
        exact jS_end ⟨k01.trans kw, .inl ⟨ht, rfl⟩⟩
      · rw [if_neg (by omega), Wz_0]
        exact jS_end ⟨k01.trans kw, .inl ⟨ht, rfl⟩⟩
    by_cases cp : qO o 11 ≤ 8193
    · have hov : jf q6.1 23 (V + 1) 2 = 0 := by
        obtain ⟨-, z1, z2⟩ := S6.2.1
        rcases z2 with ⟨z2, z3, z4, -⟩ | ⟨z2, z3, z4⟩
        · exact z3
        · omega
      obtain ⟨i2, i3⟩ := i1 cp
      rw [if_pos hov]
      refine jS_call (c_index H1 hC1 S6 cp i3) fun q7 ⟨g', p', j1, j2, j3, j4⟩ => ?_
      by_cases cT : totO o ≤ 8192
      · have hp' : p' ≤ 8193 := by
          by_cases z : p' ≤ 8193
          · exact z
          · have := j3 (by omega); omega
        obtain ⟨j5, g7, j6, j7, j8, j9⟩ := j4 hp'
        subst j5; subst j6
        rw [eu_X20_write_96]; unfold du_X20_write_96
        obtain ⟨-, z1, z2⟩ := id j2
        rcases z2 with ⟨z2, z3, z4, -⟩ | ⟨z2, z3, z4⟩
        · rw [if_pos z3, z4, if_neg (by omega), Wz_1]
          refine jS_end ⟨k01.trans j1, .inr ⟨cT, rfl, _, j2, ?_⟩⟩
          obtain ⟨f2, f3, f4⟩ := f1 (by omega)
          -- from a stage on
          have z11 : ∀ i, ¬ (32 ≤ i ∧ i < 36) → gNb g7 32 4 (tabO o) i = g7 i := fun i hi => gN_lo (by omega)
          have z10 : ∀ i, ¬ (32 ≤ i ∧ i < 36) → i < qO o 10 → gNb g7 32 4 (tabO o) i = g5 i := fun i hi h1 => by rw [z11 i hi, j7 i (by omega), i2 i h1]
          have z9 : ∀ i, ¬ (32 ≤ i ∧ i < 36) → i < qO o 9 → (∀ x, 0 ≤ x → x < o 2 1 0 → ¬ (aSy o x ≤ i ∧ i < aSy o x + 4)) → gNb g7 32 4 (tabO o) i = g4 i := fun i hi h1 h2 => by rw [z10 i hi (by omega), f2 i h1 h2]
          have hax : ∀ x, 0 ≤ x → x < o 2 1 0 → aSy o x = bO o 8 + 16 + 16 * tn o x ∧ 0 ≤ tn o x ∧ tn o x < o 2 1 0 := fun x x0 x1 => ⟨rfl, (tn_lo x0 x1).1, (tn_lo x0 x1).2.1⟩
          have z9' : ∀ i, ¬ (32 ≤ i ∧ i < 36) → i < bO o 8 + 16 → gNb g7 32 4 (tabO o) i = g4 i := fun i hi h1 => z9 i hi (by
            have := (in_tot2 v (k := 8) (k' := 9) (by omega) rfl).2.2.1
            have l8 : lnO o 8 = 16 + 16 * o 2 1 0 := rfl
            omega) fun x x0 x1 => by have := hax x x0 x1; omega
          have z8 : ∀ i, ¬ (32 ≤ i ∧ i < 36) → i < qO o 8 → gNb g7 32 4 (tabO o) i = g3 i := fun i hi h1 => by rw [z9' i hi (by omega), e1 i h1]
          have z5 : ∀ i, ¬ (32 ≤ i ∧ i < 36) → i < qO o 5 → gNb g7 32 4 (tabO o) i = g2 i := fun i hi h1 => by rw [z8 i hi (by omega), d1 i h1]
          have z4 : ∀ i, ¬ (32 ≤ i ∧ i < 36) → i < qO o 4 → gNb g7 32 4 (tabO o) i = g1 i := fun i hi h1 => by rw [z5 i hi (by omega), c1 i h1]
          have z0 : ∀ i, ¬ (32 ≤ i ∧ i < 36) → i < 52 → gNb g7 32 4 (tabO o) i = g0 i := fun i hi h1 => by rw [z4 i hi (by omega), b1 i h1]
          refine ⟨⟨?_, ?_, fun k k0 k1 => ?_, ?_, ?_, ?_, fun k k0 k1 => ?_, gN_4, ?_, ?_, fun k k0 k1 => ?_, ?_, ?_, ?_⟩, fun x hx k k0 k1 => ?_, fun k k0 k1 => ?_, fun x x0 x1 => ?_, ⟨fun k k0 k1 => ?_, fun x x0 x1 => ?_⟩, fun i hi => ?_, fun i hi => ?_, ⟨fun k k0 k1 => ?_, fun k hk c => ?_⟩, fun k hk p p0 p1 => ?_, fun p p0 p1 => ?_⟩
          · exact a1.of fun q _ _ => z0 q (by omega) (by omega)
          · exact a2.of fun q _ _ => z0 q (by omega) (by omega)
          · rw [z0 k (by omega) (by omega)]; exact a3 k k0 k1
          · exact a4.of fun q _ _ => z0 q (by omega) (by omega)
          · exact a5.of fun q _ _ => z0 q (by omega) (by omega)
          · exact a6.of fun q _ _ => z0 q (by omega) (by omega)
          · rw [z0 k (by omega) (by omega)]; exact a7 k k0 k1
          · exact a9.of fun q _ _ => z0 q (by omega) (by omega)
          · exact a10.of fun q _ _ => z0 q (by omega) (by omega)
          · rw [z0 k (by omega) (by omega)]; exact a11 k k0 k1
          · exact a12.of fun q _ _ => z0 q (by omega) (by omega)
          · exact a13.of fun q _ _ => z0 q (by omega) (by omega)
          · exact a14.of fun q _ _ => z0 q (by omega) (by omega)
          · have hi := in_tot v (k := x) (by omega)
            have hm := qO_mono v (i := x + 1) (j := 4) (by omega)
            have el : lnO o x = o 1 x 0 := by unfold lnO; rw [if_pos hx]
            rw [z4 _ (by omega) (by omega)]; exact b2 x hx k k0 k1
          · have hi := in_tot2 v (k := 4) (k' := 5) (by omega) rfl
            have el : lnO o 4 = 2 * o 2 0 0 := rfl
            exact (c3 k k0 k1).of fun q _ _ => z5 q (by omega) (by omega)
          · have hv := v.2.2.2.2.2 x x0 x1
            have hm := qO_mono v (i := 6 + (o 5 x 0).toNat) (j := 8) (by have := hv.1; have := hv.2.1; omega)
            have hm2 := qO_mono v (i := 5) (j := 5 + (o 5 x 0).toNat) (by omega)
            have hb := bO_lo v (5 + (o 5 x 0).toNat)
            have hq5 := qO_lo v 5
            exact (d3 x x0 x1).of v x0 x1 fun p p0 p1 => z8 p (by omega) (by omega)
          · rw [z9' k (by omega) k1]; exact e3 k k0 k1
          · obtain ⟨p1, p2, p3⟩ := hax x x0 x1
            have hi := in_tot2 v (k := 8) (k' := 9) (by omega) rfl
            have l8 : lnO o 8 = 16 + 16 * o 2 1 0 := rfl
            have py := (e4 x x0 x1).of (g' := gNb g7 32 4 (tabO o)) fun p q0 q1 => z9 p (by omega) (by omega) fun y y0 y1 => by have := hax y y0 y1; omega
            exact ⟨(f3 x x0 x1).of fun p q0 q1 => z10 p (by omega) (by omega), py.1, py.2.1, py.2.2.1, py.2.2.2.1, py.2.2.2.2⟩
          · have hi9 := in_tot2 v (k := 9) (k' := 10) (by omega) rfl
            have l9 : lnO o 9 = (sSy o (o 2 1 0).toNat).length := rfl
            rw [z10 _ (by omega) (by omega)]; exact f4 i hi
          · have hi9 := in_tot2 v (k := 10) (k' := 11) (by omega) rfl
            have l9 : lnO o 10 = (sTl (th o) 11).length := rfl
            rw [z11 _ (by omega), j7 _ (by omega)]; exact i3 i hi
          · rw [z11 _ (by omega)]; exact j8 k (by omega) k1
          · have ha := aEn_lo v hk c
            exact (j9 k hk c).of fun p q0 q1 => z11 p (by omega)
          · have hmk := qO_mono v (i := 0) (j := k) (by omega)
            have hi := in_tot v hk
            by_cases c4 : k < 4
            · have hm := qO_mono v (i := k + 1) (j := 4) (by omega)
              rw [z4 p (by omega) (by omega)]; exact b3 k (by omega) c4 p p0 p1
            by_cases c5 : k = 4
            · subst c5
              have hi := in_tot2 v (k := 4) (k' := 5) (by omega) rfl
              rw [z5 p (by omega) (by omega)]; exact c2 p p0 p1
            by_cases c8 : k < 8
            · have hm := qO_mono v (i := k + 1) (j := 8) (by omega)
              rw [z8 p (by omega) (by omega)]; exact d2 k (by omega) c8 p p0 p1
            by_cases c9 : k = 8
            · subst c9
              rw [z9' p (by omega) (by omega)]; exact e2 p p0 p1
            · have hb : bO o k = qO o k := by
                unfold bO; rw [if_pos (th_low (by omega))]
                have : alO o k = 1 := by unfold alO; rw [if_neg (by omega), if_neg (by omega), if_neg (by omega)]
                rw [this]
                exact rU_eq (show (0 : Int) < 1 by decide) (Int.emod_one _)
              omega
          · rw [z11 _ (by omega)]; exact j8 p p0 (by omega)
        · omega
      · refine bad q7.1 g' p' j1 j2 ?_ (by omega)
        by_cases z : p' ≤ 8193
        · have := (j4 z).1; omega
        · omega
    · have hov : ¬ jf q6.1 23 (V + 1) 2 = 0 := by
        obtain ⟨-, z1, z2⟩ := S6.2.1
        rcases z2 with ⟨z2, z3, z4, -⟩ | ⟨z2, z3, z4⟩
        · omega
        · omega
      rw [if_neg hov]
      exact bad q6.1 g6 _ S6.1 S6.2.1 (by omega) (by omega)
  by_cases c : th o 4 = true
  · have hne : ¬ en o 4 = 0 := fun z => hz4.mp z c
    rw [if_pos (by omega)]
    refine jS_call (c_starts H1 c S1) fun q4 ⟨g2, S2, c1, c2, c3⟩ => rest q4.1 g2 S2 c1 c2 c3
  · have hne : en o 4 = 0 := hz4.mpr c
    rw [if_neg (by omega)]
    have sk := q_skip v (k := 4) (by omega) (by omega) c
    have l4 : lnO o 4 = 2 * o 2 0 0 := rfl
    exact rest q3.1 g1 (wS_skip v (by omega) (by omega) c S1) (fun _ _ => rfl) (fun p p0 p1 => by omega) fun k k0 k1 => by omega
end jCwrite5
