/-! the component writes a file: symbols, their names -/
section jCwrite3
variable {s t u : jS} {N L V p n v f a b x y : Int} {g g' : Int → Int} {o : Int → Int → Int → Int} {K : Nat}
def pSy0 (o : Int → Int → Int → Int) (g : Int → Int) (x : Int) : Prop := B4 g (aSy o x + 4) (o 4 x 1) ∧ B4 g (aSy o x + 8) (o 4 x 2) ∧ g (aSy o x + 12) = 16 * o 4 x 3 + o 4 x 4 ∧ g (aSy o x + 13) = 0 ∧ B2 g (aSy o x + 14) (whO o (o 4 x 0))
theorem pSy0.of (h : pSy0 o g x) (e : ∀ p, aSy o x + 4 ≤ p → p < aSy o x + 16 → g' p = g p) : pSy0 o g' x := by
  obtain ⟨h1, h2, h3, h4, h5⟩ := h
  exact ⟨h1.of fun q q0 q1 => e q (by omega) (by omega), h2.of fun q q0 q1 => e q (by omega) (by omega), by rw [e _ (by omega) (by omega)]; exact h3, by rw [e _ (by omega) (by omega)]; exact h4, h5.of fun q q0 q1 => e q (by omega) (by omega)⟩
/-- how many symbols were gone over ahead of a pass -/
def nPs (o : Int → Int → Int → Int) (p : Int) : Int := if p = 0 then 0 else if p = 1 then nLc o else o 2 1 0
theorem nPs_s (v : vOb o) (hp : p = 0 ∨ p = 1) : nPs o p + cn (isRd o p) (o 2 1 0) = nPs o (p + 1) := by
  have hn := v.2.2.1
  unfold vObN at hn
  have e := cn_two (o := o) (x := o 2 1 0) (by omega)
  rcases hp with rfl | rfl
  · show 0 + cn (isLc o) (o 2 1 0) = nLc o
    rw [Int.zero_add]; rfl
  · show nLc o + cn (isNl o) (o 2 1 0) = o 2 1 0
    exact e
theorem tn_rd (hp : p = 0 ∨ p = 1) (h : isRd o p x = true) : tn o x = nPs o p + cn (isRd o p) x := by
  have := (isRd_i hp x).mp h
  rcases hp with rfl | rfl
  · unfold tn
    rw [if_pos (this.mpr rfl)]
    show _ = 0 + cn (isLc o) x
    omega
  · unfold tn
    rw [if_neg (fun z => by have := this.mp z; omega)]; rfl
theorem nPs_lo (v : vOb o) (hp : p = 0 ∨ p = 1) (x0 : 0 ≤ x) (x1 : x ≤ o 2 1 0) : 0 ≤ nPs o p + cn (isRd o p) x ∧ nPs o p + cn (isRd o p) x ≤ o 2 1 0 := by
  have hn := v.2.2.1
  unfold vObN at hn
  have e := nPs_s v hp
  have h1 := cn_lo (P := isRd o p) x0
  have h2 := cn_le (P := isRd o p) x0 x1
  have h3 := nLc_lo v
  have h4 : 0 ≤ nPs o p := by unfold nPs; split
                              · omega
                              · split <;> omega
  have h5 : nPs o (p + 1) ≤ o 2 1 0 := by
    have hl := cn_lo (P := isLc o) (x := o 2 1 0) (by omega)
    rcases hp with rfl | rfl
    · show nLc o ≤ _; unfold nLc; omega
    · exact Int.le_refl _
  omega
theorem c_symbols (h : wH s V b o) (S : wS s u V o g 8 (qO o 8)) : jE (m_X20_symbols u V b) fun q => ∃ g', wS s q.1 V o g' 9 (qO o 9) ∧ (∀ i, i < qO o 8 → g' i = g i) ∧ (∀ p, qO o 8 ≤ p → p < bO o 8 → g' p = 0) ∧ (∀ k, bO o 8 ≤ k → k < bO o 8 + 16 → g' k = 0) ∧ ∀ x, 0 ≤ x → x < o 2 1 0 → pSy0 o g' x := by
  have v := h.2.2.2.1
  have hn := v.2.2.1
  unfold vObN at hn
  obtain ⟨i1, i2, i3, i4, i5, i6⟩ := in_tot2 v (k := 8) (k' := 9) (by omega) rfl
  have el : lnO o 8 = 16 + 16 * o 2 1 0 := rfl
  have hq := qO_lo v 9
  rw [em_X20_symbols]; unfold dm_X20_symbols
  refine jS_call (c_begin S (by omega) (by omega) (th_low (by omega)) rfl (show (4 : Int) = alO o 8 from rfl) (by omega) (by omega)) fun q ⟨g1, k1, w1, e1, t1, f1, y1, y2⟩ => ?_
  rw [eu_X20_symbols_9]; unfold du_X20_symbols_9
  have M0 := wM.of (K := 8) k1 w1 e1 t1 f1
  refine jS_for (fun k t => ∃ g2, wM s t V o g2 8 (bO o 8 + 4 * k) ∧ (∀ i, i < bO o 8 → g2 i = g1 i) ∧ ∀ i, bO o 8 ≤ i → i < bO o 8 + 4 * k → g2 i = 0) (fun k => [V, b, k]) 0 4 (by omega) ⟨g1, by rw [show bO o 8 + 4 * 0 = bO o 8 by omega]; exact M0, fun _ _ => rfl, fun j j0 j1 => by omega⟩ (fun k t k0 k2 ⟨g2, e2, e3, e4⟩ => ?_) (fun t ⟨g2, e2, e3, e4⟩ => ?_)
  · show jE (b_X20_symbols_9 t V b k) _
    unfold b_X20_symbols_9
    rw [if_pos k2]
    refine jS_call (c_p4 e2.2.1 (by omega) (jin_of (v := 0) (by omega) (by omega))) fun q ⟨q1, q2⟩ => ?_
    rw [W32_in (by omega) (by omega)]
    have M := e2.pb q1 q2 (by omega)
    rw [show bO o 8 + 4 * k + 4 = bO o 8 + 4 * (k + 1) by omega] at M
    refine jS_end ⟨rfl, _, M, fun i i0 => by rw [gN_lo (by omega)]; exact e3 i i0, fun i i0 i1 => ?_⟩
    by_cases c : i < bO o 8 + 4 * k
    · rw [gN_lo (by omega)]; exact e4 i i0 c
    · exact gN_z (by omega)
  show jE (b_X20_symbols_9 t V b 4) _
  unfold b_X20_symbols_9
  rw [if_neg (by omega), eu_X20_symbols_28]; unfold du_X20_symbols_28
  rw [eu_X20_symbols_30]; unfold du_X20_symbols_30
  refine jS_inr ?_
  rw [show bO o 8 + 4 * 4 = bO o 8 + 16 by omega] at e2 e4
  refine jS_for (fun k t => ∃ g3, wM s t V o g3 8 (bO o 8 + 16 + 16 * nPs o k) ∧ (∀ i, i < bO o 8 + 16 → g3 i = g2 i) ∧ ∀ x, 0 ≤ x → x < o 2 1 0 → tn o x < nPs o k → pSy0 o g3 x) (fun k => [V, b, k]) 0 2 (by omega) ⟨g2, by rw [show bO o 8 + 16 + 16 * nPs o 0 = bO o 8 + 16 by show _ + _ + 16 * 0 = _; omega]; exact e2, fun _ _ => rfl, fun x x0 x1 hx => by have := tn_lo x0 x1; have : nPs o 0 = 0 := rfl; omega⟩ (fun p t p0 p1 ⟨g3, d2, d3, d4⟩ => ?_) (fun t ⟨g3, d2, d3, d4⟩ => ?_)
  · show jE (b_X20_symbols_30 t V b p) _
    unfold b_X20_symbols_30
    rw [if_pos p1, eu_X20_symbols_37]; unfold du_X20_symbols_37
    have hp : p = 0 ∨ p = 1 := by omega
    refine jS_for (fun k t => ∃ g4, wM s t V o g4 8 (bO o 8 + 16 + 16 * (nPs o p + cn (isRd o p) k)) ∧ (∀ i, i < bO o 8 + 16 → g4 i = g2 i) ∧ ∀ x, 0 ≤ x → x < o 2 1 0 → tn o x < nPs o p + cn (isRd o p) k → pSy0 o g4 x) (fun k => [V, b, p, k]) 0 (o 2 1 0) (by omega) ⟨g3, by rw [cn_0, Int.add_zero]; exact d2, d3, fun x x0 x1 hx => d4 x x0 x1 (by rw [cn_0] at hx; omega)⟩ (fun k t k0 k2 ⟨g4, f2, f3, f4⟩ => ?_) (fun t ⟨g4, f2, f3, f4⟩ => ?_)
    · show jE (b_X20_symbols_37 t V b p k) _
      unfold b_X20_symbols_37
      have H := h.keep f2.1
      obtain ⟨-, -, -, -, -, -, -, -, -, r10, r11⟩ := r_sec H (x := 0) (by omega) (by omega)
      obtain ⟨z1, ⟨z2, z3⟩, ⟨z4, z5, z6, z7, z8, z9⟩, z10, z11, z12⟩ := r_sym H k0 k2
      have hc := cn_lo (P := isRd o p) k0
      have hs := cn_s (P := isRd o p) k0
      have hr := isRd_i (o := o) hp k
      have hnp := nPs_lo v hp k0 (show k ≤ o 2 1 0 by omega)
      rw [r10, Option.bind_some, if_pos k2, r11, Option.bind_some, z1, Option.bind_some, jrd_in z2 z3, Option.bind_some, z7]
      have e66 : (if o 4 k 3 = 0 then u_X20_symbols_66 t V b p k (b + 3 + 10 + 3 * k) 1 else u_X20_symbols_66 t V b p k (b + 3 + 10 + 3 * k) 0) = if isRd o p k = true then u_X20_symbols_75 t V b p k (b + 3 + 10 + 3 * k) 1 1 else u_X20_symbols_75 t V b p k (b + 3 + 10 + 3 * k) 1 0 := by
        have w : ∀ y0 y1 : Int, (y0 = 0 ∨ y0 = 1) → (y1 = 0 ∨ y1 = 1) → u_X20_symbols_75 t V b p k (b + 3 + 10 + 3 * k) y0 y1 = if y0 = y1 then u_X20_symbols_75 t V b p k (b + 3 + 10 + 3 * k) 1 1 else u_X20_symbols_75 t V b p k (b + 3 + 10 + 3 * k) 1 0 := by
          intro y0 y1 h0 h1
          simp only [eu_X20_symbols_75, du_X20_symbols_75]
          rcases h0 with rfl | rfl <;> rcases h1 with rfl | rfl <;> rfl
        simp only [eu_X20_symbols_66, du_X20_symbols_66]
        rcases hp with rfl | rfl
        · by_cases c : o 4 k 3 = 0
          · rw [if_pos c, if_pos rfl, if_pos (hr.mpr ⟨fun _ => rfl, fun _ => c⟩)]
          · rw [if_neg c, if_pos rfl, if_neg (fun z => c ((hr.mp z).mpr rfl))]
        · by_cases c : o 4 k 3 = 0
          · rw [if_pos c, if_neg (by omega), if_neg (fun z => absurd ((hr.mp z).mp c) (by decide)), w 0 1 (.inl rfl) (.inr rfl)]; rfl
          · rw [if_neg c, if_neg (by omega), if_pos (hr.mpr ⟨fun z => absurd z c, fun z => absurd z (by decide)⟩), w 0 0 (.inl rfl) (.inl rfl)]; rfl
      rw [e66]
      by_cases c : isRd o p k = true
      · rw [if_pos c] at hs
        have ht := tn_rd (o := o) hp c
        have ha : aSy o k = bO o 8 + 16 + 16 * (nPs o p + cn (isRd o p) k) := by unfold aSy; rw [ht]
        rw [if_pos c, eu_X20_symbols_75]; unfold du_X20_symbols_75
        unfold vSy at z10
        obtain ⟨v1, v2, v3, v4, v5, v6, v7, v8, v9⟩ := z10
        rw [if_pos rfl]
        refine jS_call (c_p4 f2.2.1 (by omega) (jin_of (v := 0) (by omega) (by omega))) fun q1 ⟨a1, b1⟩ => ?_
        have M1 := f2.pb a1 b1 (by omega)
        obtain ⟨-, ⟨z2, z3⟩, ⟨z4, z5, z6, z7, z8, -⟩, -⟩ := r_sym (h.keep M1.1) k0 k2
        rw [jrd_in z2 z3, Option.bind_some, z5]
        refine jS_call (c_p4 M1.2.1 (by omega) v3) fun q2 ⟨a2, b2⟩ => ?_
        have M2 := M1.pb a2 b2 (by omega)
        obtain ⟨-, ⟨z2, z3⟩, ⟨z4, z5, z6, z7, z8, -⟩, -⟩ := r_sym (h.keep M2.1) k0 k2
        rw [jrd_in z2 z3, Option.bind_some, z6]
        refine jS_call (c_p4 M2.2.1 (by omega) v4) fun q3 ⟨a3, b3⟩ => ?_
        have M3 := M2.pb a3 b3 (by omega)
        obtain ⟨-, ⟨z2, z3⟩, ⟨z4, z5, z6, z7, z8, -⟩, -⟩ := r_sym (h.keep M3.1) k0 k2
        rw [jrd_in z2 z3, Option.bind_some, z7, jrd_in z2 z3, Option.bind_some, z8, W32_in (z := 16 * o 4 k 3) (by omega) (by omega), W32_in (by omega) (by omega)]
        refine jS_call (c_p1 M3.2.1 (by omega) _) fun q4 ⟨a4, b4⟩ => ?_
        have M4 := M3.pb a4 b4 (by omega)
        refine jS_call (c_p1 M4.2.1 (by omega) _) fun q5 ⟨a5, b5⟩ => ?_
        have M5 := M4.pb a5 b5 (by omega)
        obtain ⟨-, ⟨z2, z3⟩, ⟨z4, z5, z6, z7, z8, -⟩, -⟩ := r_sym (h.keep M5.1) k0 k2
        have hwh : m_X20_whereOf q5.1 V (o 4 k 0) = some (whO o (o 4 k 0)) := by
          unfold whO
          rw [e_X20_whereOf _ _ _ (fun c1 c2 c3 => by rw [W32_in (by omega) (by omega)]; omega)]
          congr 1
          by_cases c1 : o 4 k 0 = -1
          · rw [if_pos c1, if_pos c1]
          rw [if_neg c1, if_neg c1]
          by_cases c2 : o 4 k 0 = 4
          · rw [if_pos c2, if_neg (by omega), if_pos c2]
          rw [if_neg c2]
          by_cases c3 : o 4 k 0 = 5
          · rw [if_pos c3, if_neg (by omega), if_neg (by omega)]
          rw [if_neg c3, if_pos (by omega), W32_in (by omega) (by omega)]
          have := M5.2.2.1.1 (o 4 k 0).toNat (by omega)
          rw [nt (by omega)] at this
          exact this
        have hwl : 0 ≤ whO o (o 4 k 0) ∧ whO o (o 4 k 0) ≤ 65522 := by
          unfold whO
          have := en_lo (o := o) (o 4 k 0).toNat
          repeat' split
          all_goals omega
        rw [jrd_in z2 z3, Option.bind_some, z4, hwh, Option.bind_some]
        refine jS_call (c_p2 M5.2.1 (by omega) (jin_of (by omega) (by omega))) fun q6 ⟨a6, b6⟩ => ?_
        have M6 := M5.pb a6 b6 (by omega)
        rw [eu_X20_symbols_158]; unfold du_X20_symbols_158
        rw [W32_in (by omega) (by omega)]
        rw [← ha] at M6
        have ep : aSy o k + 4 + 4 + 4 + 1 + 1 + 2 = bO o 8 + 16 + 16 * (nPs o p + cn (isRd o p) (k + 1)) := by omega
        rw [ep] at M6
        refine jS_end ⟨rfl, _, M6, fun i i0 => by rw [gN_lo (by omega), gN_lo (by omega), gN_lo (by omega), gN_lo (by omega), gN_lo (by omega), gN_lo (by omega)]; exact f3 i i0, fun x x0 x1 hx => ?_⟩
        by_cases cx : x = k
        · subst cx
          refine ⟨?_, ?_, ?_, ?_, ?_⟩
          · repeat (first | exact gN_4 | refine B4.gn ?_ (by omega))
          · rw [show aSy o x + 8 = aSy o x + 4 + 4 by omega]
            repeat (first | exact gN_4 | refine B4.gn ?_ (by omega))
          · rw [gN_lo (by omega), gN_lo (by omega), show aSy o x + 12 = aSy o x + 4 + 4 + 4 by omega, gN_1]; omega
          · rw [gN_lo (by omega), show aSy o x + 13 = aSy o x + 4 + 4 + 4 + 1 by omega, gN_1]; rfl
          · rw [show aSy o x + 14 = aSy o x + 4 + 4 + 4 + 1 + 1 by omega]; exact gN_2
        · have hne : ¬ tn o x = tn o k := fun z => cx (tn_inj x0 x1 k0 k2 z)
          have hax : aSy o x = bO o 8 + 16 + 16 * tn o x := rfl
          refine (f4 x x0 x1 (by omega)).of fun i i0 i1 => ?_
          rw [gN_lo (by omega), gN_lo (by omega), gN_lo (by omega), gN_lo (by omega), gN_lo (by omega), gN_lo (by omega)]
      · rw [if_neg c] at hs
        rw [if_neg c, eu_X20_symbols_75]; unfold du_X20_symbols_75
        rw [if_neg (by omega), eu_X20_symbols_158]; unfold du_X20_symbols_158
        rw [W32_in (by omega) (by omega)]
        refine jS_end ⟨rfl, g4, by rw [hs, Int.add_zero]; exact f2, f3, fun x x0 x1 hx => f4 x x0 x1 (by omega)⟩
    · show jE (b_X20_symbols_37 t V b p (o 2 1 0)) _
      unfold b_X20_symbols_37
      have H := h.keep f2.1
      obtain ⟨-, -, -, -, -, -, -, -, -, r10, r11⟩ := r_sec H (x := 0) (by omega) (by omega)
      rw [r10, Option.bind_some, if_neg (by omega), eu_X20_symbols_164]; unfold du_X20_symbols_164
      rw [W32_in (by omega) (by omega)]
      rw [nPs_s v hp] at f2 f4
      exact jS_inr (jS_end ⟨rfl, g4, f2, f3, f4⟩)
  · show jE (b_X20_symbols_30 t V b 2) _
    unfold b_X20_symbols_30
    rw [if_neg (by omega), eu_X20_symbols_170]; unfold du_X20_symbols_170
    have n2 : nPs o 2 = o 2 1 0 := rfl
    rw [n2] at d2 d4
    rw [show bO o 8 + 16 + 16 * o 2 1 0 = bO o 8 + lnO o 8 by omega] at d2
    refine jS_inr (jS_call (c_end d2 (by omega) (by omega) rfl) fun q hq => ?_)
    rw [← i3] at hq
    exact jS_end ⟨g3, hq, fun i i0 => by rw [d3 i (by omega), e3 i (by omega)]; exact y1 i i0, fun p p0 p1 => by rw [d3 p (by omega), e3 p p1]; exact y2 p p0 p1, fun k k0 k1 => by rw [d3 k k1]; exact e4 k k0 k1, fun x x0 x1 => d4 x x0 x1 (by have := tn_lo x0 x1; omega)⟩
/-- symbols' names -/
theorem c_strings (h : wH s V b o) (S : wS s u V o g 9 (qO o 9)) : jE (m_X20_strings u V b) fun q => ∃ g', wS s q.1 V o g' 10 (qO o 10) ∧ (qO o 10 ≤ 8193 → (∀ i, i < qO o 9 → (∀ x, 0 ≤ x → x < o 2 1 0 → ¬ (aSy o x ≤ i ∧ i < aSy o x + 4)) → g' i = g i) ∧ (∀ x, 0 ≤ x → x < o 2 1 0 → B4 g' (aSy o x) (sAt o x)) ∧ ∀ i : Nat, i < (sSy o (o 2 1 0).toNat).length → g' (bO o 9 + i) = (sSy o (o 2 1 0).toNat).getD i 0) := by
  have v := h.2.2.2.1
  have hn := v.2.2.1
  unfold vObN at hn
  obtain ⟨i1, i2, i3, i4, i5, i6⟩ := in_tot2 v (k := 9) (k' := 10) (by omega) rfl
  obtain ⟨j1, j2, j3, j4, j5, j6⟩ := in_tot2 v (k := 8) (k' := 9) (by omega) rfl
  have el8 : lnO o 8 = 16 + 16 * o 2 1 0 := rfl
  have el : lnO o 9 = (sSy o (o 2 1 0).toNat).length := rfl
  have b9 : bO o 9 = qO o 9 := by
    unfold bO; rw [if_pos (th_low (by omega))]
    exact rU_eq (show (0 : Int) < 1 by decide) (Int.emod_one _)
  have hq := qO_lo v 10
  have hsl : ∀ m : Nat, (m : Int) ≤ o 2 1 0 → 1 ≤ (sSy o m).length ∧ (sSy o m).length ≤ 1 + 17 * m := fun m hm => sSy_len m v.2.2.2.2.1 hm
  rw [em_X20_strings]; unfold dm_X20_strings
  refine jS_call (c_begin S (by omega) (by omega) (th_low (by omega)) rfl (show (1 : Int) = alO o 9 from rfl) (by omega) (by omega)) fun q ⟨g1, k1, w1, e1, t1, f1, y1, y2⟩ => ?_
  have M0 := wM.of (K := 9) k1 w1 e1 t1 f1
  refine jS_call (c_p1 M0.2.1 (by omega) 0) fun q1 ⟨a1, b1⟩ => ?_
  have M1 := M0.pb a1 b1 (by omega)
  rw [jlt_in (by omega) (by omega), Option.bind_some]
  have hF := M1.2.2.2.1 8 (by omega) (th_low (by omega))
  unfold wT1 at hF
  rw [show ((8 : Nat) : Int) + 1 = 9 from rfl] at hF
  generalize jf q1.1 1000 (V + 4) 9 = F at hF ⊢
  obtain ⟨F0, F1, F2, -⟩ := hF
  rw [eu_X20_strings_25]; unfold du_X20_strings_25
  -- what is carried along
  have start : ∃ g3, wM s q1.1 V o g3 9 (bO o 9 + (sSy o (nPs o 0).toNat).length) ∧ (bO o 9 + (sSy o (nPs o 0).toNat).length ≤ 8193 → (∀ i, i < qO o 9 → (∀ x, 0 ≤ x → x < o 2 1 0 → ¬ (aSy o x ≤ i ∧ i < aSy o x + 4)) → g3 i = g i) ∧ (∀ x, 0 ≤ x → x < o 2 1 0 → tn o x < nPs o 0 → B4 g3 (aSy o x) (sAt o x)) ∧ ∀ i : Nat, i < (sSy o (nPs o 0).toNat).length → g3 (bO o 9 + i) = (sSy o (nPs o 0).toNat).getD i 0) := by
    have e0 : sSy o (nPs o 0).toNat = [0] := rfl
    rw [e0]
    refine ⟨_, M1, fun _ => ⟨fun i i0 _ => by rw [gN_lo (by omega)]; exact y1 i i0, fun x x0 x1 hx => ?_, fun i hi => ?_⟩⟩
    · have := tn_lo x0 x1
      have : nPs o 0 = 0 := rfl
      omega
    · have : i = 0 := by simp at hi; omega
      subst this
      rw [show bO o 9 + ((0 : Nat) : Int) = bO o 9 by omega, gN_1]; rfl
  refine jS_for1 (fun p z t => z = F + 16 * nPs o p ∧ ∃ g3, wM s t V o g3 9 (bO o 9 + (sSy o (nPs o p).toNat).length) ∧ (bO o 9 + (sSy o (nPs o p).toNat).length ≤ 8193 → (∀ i, i < qO o 9 → (∀ x, 0 ≤ x → x < o 2 1 0 → ¬ (aSy o x ≤ i ∧ i < aSy o x + 4)) → g3 i = g i) ∧ (∀ x, 0 ≤ x → x < o 2 1 0 → tn o x < nPs o p → B4 g3 (aSy o x) (sAt o x)) ∧ ∀ i : Nat, i < (sSy o (nPs o p).toNat).length → g3 (bO o 9 + i) = (sSy o (nPs o p).toNat).getD i 0)) (fun p z => [V, b, z, p]) 0 2 (by omega) ⟨by show F = F + 16 * 0; omega, start⟩ (fun p z t p0 p1 ⟨ez, g3, d2, d3⟩ => ?_) (fun z t ⟨ez, g3, d2, d3⟩ => ?_)
  · show jE (b_X20_strings_25 t V b z p) _
    unfold b_X20_strings_25
    rw [if_pos p1, eu_X20_strings_33]; unfold du_X20_strings_33
    have hp : p = 0 ∨ p = 1 := by omega
    refine jS_for1 (fun k z t => z = F + 16 * (nPs o p + cn (isRd o p) k) ∧ ∃ g3, wM s t V o g3 9 (bO o 9 + (sSy o (nPs o p + cn (isRd o p) k).toNat).length) ∧ (bO o 9 + (sSy o (nPs o p + cn (isRd o p) k).toNat).length ≤ 8193 → (∀ i, i < qO o 9 → (∀ x, 0 ≤ x → x < o 2 1 0 → ¬ (aSy o x ≤ i ∧ i < aSy o x + 4)) → g3 i = g i) ∧ (∀ x, 0 ≤ x → x < o 2 1 0 → tn o x < nPs o p + cn (isRd o p) k → B4 g3 (aSy o x) (sAt o x)) ∧ ∀ i : Nat, i < (sSy o (nPs o p + cn (isRd o p) k).toNat).length → g3 (bO o 9 + i) = (sSy o (nPs o p + cn (isRd o p) k).toNat).getD i 0)) (fun k z => [V, b, z, p, k]) 0 (o 2 1 0) (by omega) ⟨by rw [cn_0, Int.add_zero]; exact ez, g3, by rw [cn_0, Int.add_zero]; exact d2, by rw [cn_0, Int.add_zero]; exact d3⟩ (fun k z t k0 k2 ⟨ez, g4, f2, f3⟩ => ?_) (fun z t ⟨ez, g4, f2, f3⟩ => ?_)
    · show jE (b_X20_strings_33 t V b z p k) _
      unfold b_X20_strings_33
      have H := h.keep f2.1
      obtain ⟨-, -, -, -, -, -, -, -, -, r10, r11⟩ := r_sec H (x := 0) (by omega) (by omega)
      obtain ⟨z1, ⟨z2, z3⟩, ⟨z4, z5, z6, z7, z8, z9⟩, z10, z11, z12⟩ := r_sym H k0 k2
      have hc := cn_lo (P := isRd o p) k0
      have hs := cn_s (P := isRd o p) k0
      have hr := isRd_i (o := o) hp k
      have hnp := nPs_lo v hp k0 (show k ≤ o 2 1 0 by omega)
      have hnp1 := nPs_lo v hp (show 0 ≤ k + 1 by omega) (show k + 1 ≤ o 2 1 0 by omega)
      have hl0 := hsl (nPs o p + cn (isRd o p) k).toNat (by omega)
      rw [r10, Option.bind_some, if_pos k2, r11, Option.bind_some, z1, Option.bind_some, jrd_in z2 z3, Option.bind_some, z7]
      have e64 : (if o 4 k 3 = 0 then u_X20_strings_64 t V b z p k (b + 3 + 10 + 3 * k) 1 else u_X20_strings_64 t V b z p k (b + 3 + 10 + 3 * k) 0) = if isRd o p k = true then u_X20_strings_73 t V b z p k (b + 3 + 10 + 3 * k) 1 1 else u_X20_strings_73 t V b z p k (b + 3 + 10 + 3 * k) 1 0 := by
        have w : ∀ y0 y1 : Int, (y0 = 0 ∨ y0 = 1) → (y1 = 0 ∨ y1 = 1) → u_X20_strings_73 t V b z p k (b + 3 + 10 + 3 * k) y0 y1 = if y0 = y1 then u_X20_strings_73 t V b z p k (b + 3 + 10 + 3 * k) 1 1 else u_X20_strings_73 t V b z p k (b + 3 + 10 + 3 * k) 1 0 := by
          intro y0 y1 h0 h1
          simp only [eu_X20_strings_73, du_X20_strings_73]
          rcases h0 with rfl | rfl <;> rcases h1 with rfl | rfl <;> rfl
        simp only [eu_X20_strings_64, du_X20_strings_64]
        rcases hp with rfl | rfl
        · by_cases c : o 4 k 3 = 0
          · rw [if_pos c, if_pos rfl, if_pos (hr.mpr ⟨fun _ => rfl, fun _ => c⟩)]
          · rw [if_neg c, if_pos rfl, if_neg (fun z => c ((hr.mp z).mpr rfl))]
        · by_cases c : o 4 k 3 = 0
          · rw [if_pos c, if_neg (by omega), if_neg (fun z => absurd ((hr.mp z).mp c) (by decide)), w 0 1 (.inl rfl) (.inr rfl)]; rfl
          · rw [if_neg c, if_neg (by omega), if_pos (hr.mpr ⟨fun z => absurd z c, fun z => absurd z (by decide)⟩), w 0 0 (.inl rfl) (.inl rfl)]; rfl
      rw [e64]
      by_cases c : isRd o p k = true
      · rw [if_pos c] at hs
        have ht := tn_rd (o := o) hp c
        have ha : aSy o k = bO o 8 + 16 + 16 * (nPs o p + cn (isRd o p) k) := by unfold aSy; rw [ht]
        have hx : xt o ((nPs o p + cn (isRd o p) k).toNat : Nat) = k := by
          rw [nt hnp.1, ← ht]; exact xt_t k0 k2
        have hS : sSy o (nPs o p + cn (isRd o p) (k + 1)).toNat = stN (sSy o (nPs o p + cn (isRd o p) k).toNat) (wdL (o 4 k)) := by
          rw [show (nPs o p + cn (isRd o p) (k + 1)).toNat = (nPs o p + cn (isRd o p) k).toNat + 1 by omega]
          show stN _ (wdL (o 4 (xt o _))) = _
          rw [hx]
        have hA : sAt o k = stP (sSy o (nPs o p + cn (isRd o p) k).toNat) (wdL (o 4 k)) := by unfold sAt; rw [ht]
        obtain ⟨t0, t1, t2, t3, t4, t5⟩ := T37 z12
        unfold vSy at z10
        obtain ⟨v1, v2, v3, v4, v5, v6, v7, v8, v9, v10, -⟩ := z10
        have hwl := wdL_len (w := o 4 k) (by omega)
        have hL : pLt t (b + 3 + 10 + 3 * k + 1 + 1) (wdL (o 4 k)) := by
          refine ⟨⟨t3, t4, by rw [t5]; have := v10.2.1; omega⟩, fun i hi => ?_⟩
          rw [wdL_at (by omega), z9.2 i (by omega) (by omega)]
          have := v10.2.2 i (by omega) (by omega)
          exact ⟨rfl, by omega, by omega⟩
        have hb := h.2.2.2.2
        have hw16 := v10.2.1
        rw [if_pos c, eu_X20_strings_73]; unfold du_X20_strings_73
        rw [if_pos rfl, jrd_in z2 z3, Option.bind_some, z11, jrd_in t0 t1, Option.bind_some, t2, Option.bind_some, jrd_in t0 t1, Option.bind_some, z9.1, jlt_in (by omega) (by omega), Option.bind_some, W32_in (by omega) (by omega)]
        have hf := f2.2.2.2.2
        rw [show ((9 : Nat) : Int) + 1 = 10 from rfl] at hf
        by_cases cp : bO o 9 + (sSy o (nPs o p + cn (isRd o p) k).toNat).length ≤ 8193
        · obtain ⟨m1, m2, m3⟩ := f3 cp
          rw [hf.2.2.1 cp, ← hwl]
          refine jS_call (c_string f2.2.1 cp (by omega) hL (by omega) (by omega) (by omega) rfl m3) fun q2 ⟨n1, n2, g5, n3, n4, n5⟩ => ?_
          rw [← hS] at n3 n5
          have hl1 := hsl (nPs o p + cn (isRd o p) (k + 1)).toNat (by omega)
          have hle : (sSy o (nPs o p + cn (isRd o p) k).toNat).length ≤ (sSy o (nPs o p + cn (isRd o p) (k + 1)).toNat).length := by rw [hS]; exact stN_len.1
          have M2 := f2.pb n2 n3 (by omega)
          have hst : (stP (sSy o (nPs o p + cn (isRd o p) k).toNat) (wdL (o 4 k)) : Int) ≤ 10000 := by
            have := stP_le (S := sSy o (nPs o p + cn (isRd o p) k).toNat) (w := wdL (o 4 k))
            omega
          rw [n1]
          refine jS_call (c_patch (a := z + 16) M2.2.1 (by omega) (by omega) (by omega) fun hh => ⟨by have := F2 (by omega); omega, jin_of (by omega) (by omega)⟩) fun q3 ⟨o1, o2⟩ => ?_
          have M3 := M2.pb o1 o2 (by omega)
          rw [eu_X20_strings_117]; unfold du_X20_strings_117
          rw [W32_in (by omega) (by omega)]
          refine jS_end ⟨z + 16, rfl, by omega, _, M3, fun hh => ?_⟩
          have ez2 : z + 16 = aSy o k := by have := (F2 (by omega)).1; omega
          rw [ez2]
          refine ⟨fun i i0 i1 => ?_, fun x x0 x1 hx => ?_, fun i hi => ?_⟩
          · rw [gN_lo (by have := i1 k k0 k2; omega), n4 i (by omega)]; exact m1 i i0 i1
          · by_cases cx : x = k
            · subst cx
              rw [hA]; exact gN_4
            · have hne : ¬ tn o x = tn o k := fun z => cx (tn_inj x0 x1 k0 k2 z)
              have hax : aSy o x = bO o 8 + 16 + 16 * tn o x := rfl
              have htx := tn_lo x0 x1
              exact ((m2 x x0 x1 (by omega)).of fun i i0 i1 => n4 i (by omega)).gn (by omega)
          · rw [gN_lo (by omega)]; exact n5 i hi
        · refine jS_call (c_strO f2.2.1 (by omega) (by omega) ⟨t3, t4, by rw [t5]; omega⟩ (by omega) (by omega) (by omega) hf.1 hf.2.1) fun q2 ⟨n2, n3⟩ => ?_
          have hle : (sSy o (nPs o p + cn (isRd o p) k).toNat).length ≤ (sSy o (nPs o p + cn (isRd o p) (k + 1)).toNat).length := by rw [hS]; exact stN_len.1
          have M2 := f2.pb n2 (n3 g4 (bO o 9 + (sSy o (nPs o p + cn (isRd o p) (k + 1)).toNat).length) (by omega)) (by omega)
          refine jS_call (c_patch (a := z + 16) M2.2.1 (by omega) (by omega) (by omega) fun hh => absurd hh (by omega)) fun q3 ⟨o1, o2⟩ => ?_
          have M3 := M2.pb o1 o2 (by omega)
          rw [eu_X20_strings_117]; unfold du_X20_strings_117
          rw [W32_in (by omega) (by omega)]
          exact jS_end ⟨z + 16, rfl, by omega, _, M3, fun hh => absurd hh (by omega)⟩
      · rw [if_neg c, Int.add_zero] at hs
        rw [if_neg c, eu_X20_strings_73]; unfold du_X20_strings_73
        rw [if_neg (by omega), eu_X20_strings_117]; unfold du_X20_strings_117
        rw [W32_in (by omega) (by omega)]
        refine jS_end ⟨z, rfl, by rw [hs]; exact ez, g4, by rw [hs]; exact f2, by rw [hs]; exact f3⟩
    · show jE (b_X20_strings_33 t V b z p (o 2 1 0)) _
      unfold b_X20_strings_33
      have H := h.keep f2.1
      obtain ⟨-, -, -, -, -, -, -, -, -, r10, r11⟩ := r_sec H (x := 0) (by omega) (by omega)
      rw [r10, Option.bind_some, if_neg (by omega), eu_X20_strings_123]; unfold du_X20_strings_123
      rw [W32_in (by omega) (by omega)]
      rw [nPs_s v hp] at ez f2 f3
      exact jS_inr (jS_end ⟨z, rfl, ez, g4, f2, f3⟩)
  · show jE (b_X20_strings_25 t V b z 2) _
    unfold b_X20_strings_25
    rw [if_neg (by omega), eu_X20_strings_129]; unfold du_X20_strings_129
    have n2 : nPs o 2 = o 2 1 0 := rfl
    rw [n2] at d2 d3
    rw [← el] at d2 d3
    refine jS_inr (jS_call (c_end d2 (by omega) (by omega) rfl) fun q hq => ?_)
    rw [← i3] at hq
    rw [← i3] at d3
    refine jS_end ⟨g3, hq, fun hh => ?_⟩
    obtain ⟨m1, m2, m3⟩ := d3 hh
    exact ⟨m1, fun x x0 x1 => m2 x x0 x1 (tn_lo x0 x1).2.1, fun i hi => m3 i (by omega)⟩
end jCwrite3
