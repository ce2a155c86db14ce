/-! the twin writes a file: symbols, strings, entries; all of it -/
section jTput3
variable {s t u : jS} {X x y n p v T l : Int} {o : Int → Int → Int → Int} {g g' : Int → Int} {Q : jS × Int → Prop}
theorem pRl.of {x : Int} (h : pRl o g x) (v : vOb o) (x0 : 0 ≤ x) (x1 : x < o 2 2 0) (e : ∀ p, bO o (5 + (o 5 x 0).toNat) ≤ p → p < qO o (6 + (o 5 x 0).toNat) → g' p = g p) : pRl o g' x := by
  obtain ⟨r1, r2, r3⟩ := h
  have hv := v.2.2.2.2.2 x x0 x1
  have hi := (in_tot2 v (k := 5 + (o 5 x 0).toNat) (k' := 6 + (o 5 x 0).toNat) (by have := hv.1; have := hv.2.1; omega) (by omega)).2.2.1
  have hlt := cn_lt (P := ofS o (o 5 x 0)) x0 x1 (by unfold ofS; simp)
  have hlo := cn_lo (P := ofS o (o 5 x 0)) x0
  have hn : nRl o (o 5 x 0) = cn (ofS o (o 5 x 0)) (o 2 2 0) := rfl
  have ly : lnO o (5 + (o 5 x 0).toNat) = 12 * nRl o (o 5 x 0) := by
    have : o 5 x 0 = 0 ∨ o 5 x 0 = 1 ∨ o 5 x 0 = 2 := by have := hv.1; have := hv.2.1; omega
    rcases this with e | e | e <;> rw [e] <;> rfl
  have ea : aRl o x = bO o (5 + (o 5 x 0).toNat) + 12 * cn (ofS o (o 5 x 0)) x := rfl
  exact ⟨r1.of fun q q0 q1 => e q (by omega) (by omega), r2.of fun q q0 q1 => e q (by omega) (by omega), r3.of fun q q0 q1 => e q (by omega) (by omega)⟩
theorem ph_rl (hO : tOb s X 0 o) (v : vOb o) (hL : tLO s X o) (hT : totO o ≤ 8192) (cont : ∀ s1, fFl s s1 X → (∀ p, (∀ k : Nat, k < 3 → ¬ (bO o (5 + k) ≤ p ∧ p < qO o (6 + k))) → fG s1 X p = fG s X p) → (∀ x, 0 ≤ x → x < o 2 2 0 → pRl o (fG s1 X) x) → jE (u_X40_write_211 s1 X T l) Q) : jE (u_X40_write_190 s X T l) Q := by
  rw [eu_X40_write_190]; unfold du_X40_write_190
  rw [eu_X40_write_193]; unfold du_X40_write_193
  refine jS_for (fun k u => fFl s u X ∧ (∀ p, (∀ i : Nat, i < 3 → ¬ (bO o (5 + i) ≤ p ∧ p < qO o (6 + i))) → fG u X p = fG s X p) ∧ ∀ x, 0 ≤ x → x < o 2 2 0 → o 5 x 0 < k → pRl o (fG u X) x) (fun k => [X, T, l, k]) 0 3 (by omega) ⟨fFl.rfl, fun _ _ => rfl, fun x x0 x1 x2 => by have := (v.2.2.2.2.2 x x0 x1).1; omega⟩ (fun k u k0 k1 ⟨e1, e2, e3⟩ => ?_) (fun u ⟨e1, e2, e3⟩ => ?_)
  · show jE (b_X40_write_193 u X T l k) _
    unfold b_X40_write_193
    rw [if_pos k1]
    refine jS_call (ph_rl1 (hO.fl e1 v) v (hL.fl e1) hT k0 k1) fun q ⟨q1, q2, q3⟩ => ?_
    rw [W32_in (by omega) (by omega)]
    refine jS_end ⟨rfl, e1.trans q1, fun p hp => ?_, fun x x0 x1 x2 => ?_⟩
    · show fG q.1 X p = _
      rw [q2 p (hp k.toNat (by omega))]; exact e2 p hp
    · by_cases c : o 5 x 0 = k
      · exact q3 x x0 x1 c
      · refine (e3 x x0 x1 (by omega)).of v x0 x1 fun p p0 p1 => q2 p ?_
        have hv := v.2.2.2.2.2 x x0 x1
        have h1 := qO_mono v (i := 6 + (o 5 x 0).toNat) (j := 5 + k.toNat) (by have := hv.1; omega)
        have h2 := (in_tot2 v (k := 5 + k.toNat) (k' := 6 + k.toNat) (by omega) (by omega)).2.1
        omega
  · show jE (b_X40_write_193 u X T l 3) _
    unfold b_X40_write_193
    rw [if_neg (by omega)]
    refine jS_inr ?_
    exact cont u e1 e2 fun x x0 x1 => e3 x x0 x1 (by have := (v.2.2.2.2.2 x x0 x1).2.1; omega)
theorem stP_lo (v : vOb o) (x0 : 0 ≤ x) (x1 : x < o 2 1 0) : 0 ≤ sAt o x ∧ sAt o x ≤ 1701 := by
  obtain ⟨n1, n2, n3, n4, n5, n6⟩ := v.2.2.1
  have ht := tn_lo x0 x1
  have hl := sSy_len (o := o) (tn o x).toNat v.2.2.2.2.1 (by omega)
  have := stP_le (S := sSy o (tn o x).toNat) (w := wdL (o 4 x))
  unfold sAt; omega
theorem whO_lo {w : Int} (h0 : -1 ≤ w) (h1 : w ≤ 5) : 0 ≤ whO o w ∧ whO o w ≤ 65535 := by
  have := enT_lo (T := th o) w.toNat
  unfold whO en
  repeat' split
  all_goals omega
theorem pSyB.of {x : Int} (h : pSyB o g x) (e : ∀ p, aSy o x ≤ p → p < aSy o x + 16 → g' p = g p) : pSyB o g' x := by
  obtain ⟨r1, r2, r3, r4, r5, r6⟩ := h
  exact ⟨r1.of fun q q0 q1 => e q (by omega) (by omega), r2.of fun q q0 q1 => e q (by omega) (by omega), r3.of fun q q0 q1 => e q (by omega) (by omega), by rw [e _ (by omega) (by omega)]; exact r4, by rw [e _ (by omega) (by omega)]; exact r5, r6.of fun q q0 q1 => e q (by omega) (by omega)⟩
theorem B4.j {q v' : Int} (h : B4 (fG s X) p v) (d : q < p ∨ p + 4 ≤ q) : B4 (fG (jp s 1000 (X + 21) q v') X) p v := h.of fun r r0 r1 => by rw [fG_jp, if_neg (by omega)]
theorem ph_sy (hO : tOb s X 0 o) (v : vOb o) (hL : tLO s X o) (hT : totO o ≤ 8192) (hz : ∀ p, bO o 8 ≤ p → p < qO o 9 → fG s X p = 0) : jE (m_X40_writeSymbols s X) fun q => fFl s q.1 X ∧ (∀ p, ¬ (bO o 8 + 16 ≤ p ∧ p < qO o 9) → fG q.1 X p = fG s X p) ∧ ∀ x, 0 ≤ x → x < o 2 1 0 → pSyB o (fG q.1 X) x := by
  obtain ⟨n1, n2, n3, n4, n5, n6⟩ := v.2.2.1
  obtain ⟨i1, i2, i3, i4, i5, i6⟩ := in_tot2 v (k := 8) (k' := 9) (by omega) rfl
  have l8 : lnO o 8 = 16 + 16 * o 2 1 0 := rfl
  have hN := hO.2.2.1.2.1
  have hb : jf s 1000 (X + 24) 8 = bO o 8 := hL.1 8 (by omega) (.inr (th_low (by omega)))
  rw [em_X40_writeSymbols]; unfold dm_X40_writeSymbols
  rw [eu_X40_writeSymbols_2]; unfold du_X40_writeSymbols_2
  refine jS_for (fun k u => fFl s u X ∧ (∀ p, (∀ x, 0 ≤ x → x < k → ¬ (aSy o x ≤ p ∧ p < aSy o x + 16 ∧ ¬ p = aSy o x + 13)) → fG u X p = fG s X p) ∧ ∀ x, 0 ≤ x → x < k → pSyB o (fG u X) x) (fun k => [X, k]) 0 (o 2 1 0) n3 ⟨fFl.rfl, fun _ _ => rfl, fun i i0 i1 => by omega⟩ (fun k u k0 k1 ⟨e1, e2, e3⟩ => ?_) (fun u ⟨e1, e2, e3⟩ => ?_)
  · show jE (b_X40_writeSymbols_2 u X k) _
    unfold b_X40_writeSymbols_2
    obtain ⟨y1, y2, y3, y4, y5, y6⟩ := (hO.2.2.2.2.1 k k0 k1).row
    obtain ⟨v1, v2, v3, v4, v5, v6, v7, v8, v9, -⟩ := v.2.2.2.2.1 k k0 k1
    obtain ⟨t1, t2, -⟩ := tn_lo k0 k1
    have hs := stP_lo v k0 k1
    obtain ⟨m1, m2⟩ := hL.2.2.2.2.1 k k0 k1
    have ea : aSy o k = bO o 8 + 16 + 16 * tn o k := rfl
    rw [jlt_in (by omega) (by omega), Option.bind_some, e1.r (by omega), hN, if_pos k1, jlt_in (by omega) (by omega), Option.bind_some, e1.r (by omega), hb, jlt_in k0 (by omega), Option.bind_some, e1.r (by omega), m1]
    simp only [jlet]
    rw [W32_in (z := bO o 8 + 16) (by omega) (by omega), W32_in (z := 16 * tn o k) (by omega) (by omega), W32_in (by omega) (by omega), ← ea]
    rw [jlt_in k0 (by omega), Option.bind_some, e1.r (by omega), m2, t_w4 (by omega) (by omega) (jin_of (by omega) (by omega)), Option.bind_some, jlt_in k0 (by omega), Option.bind_some, jfl_neg (by omega), e1.r (by omega), y2, W32_in (z := aSy o k + 4) (by omega) (by omega), t_w4 (by omega) (by omega) v3, Option.bind_some, jlt_in k0 (by omega), Option.bind_some, jfl_neg (by omega), jfl_neg (by omega), e1.r (by omega), y3, W32_in (z := aSy o k + 8) (by omega) (by omega), t_w4 (by omega) (by omega) v4, Option.bind_some]
    have f1 : fFl s (jfil (jfil (jfil u 1000 (X + 21) (aSy o k) 4 (by4 (sAt o k))) 1000 (X + 21) (aSy o k + 4) 4 (by4 (o 4 k 1))) 1000 (X + 21) (aSy o k + 8) 4 (by4 (o 4 k 2))) X := e1.jw.jw.jw
    have g1 : ∀ w : jS, w = jfil (jfil (jfil u 1000 (X + 21) (aSy o k) 4 (by4 (sAt o k))) 1000 (X + 21) (aSy o k + 4) 4 (by4 (o 4 k 1))) 1000 (X + 21) (aSy o k + 8) 4 (by4 (o 4 k 2)) → B4 (fG w X) (aSy o k) (sAt o k) ∧ B4 (fG w X) (aSy o k + 4) (o 4 k 1) ∧ B4 (fG w X) (aSy o k + 8) (o 4 k 2) ∧ ∀ p, ¬ (aSy o k ≤ p ∧ p < aSy o k + 12) → fG w X p = fG u X p := by
      rintro w rfl
      exact ⟨(fG_4.w (by omega)).w (by omega), fG_4.w (by omega), fG_4, fun p hp => by rw [fG_n (by omega), fG_n (by omega), fG_n (by omega)]⟩
    replace g1 := g1 _ rfl
    generalize jfil (jfil (jfil u 1000 (X + 21) (aSy o k) 4 (by4 (sAt o k))) 1000 (X + 21) (aSy o k + 4) 4 (by4 (o 4 k 1))) 1000 (X + 21) (aSy o k + 8) 4 (by4 (o 4 k 2)) = w at f1 g1 ⊢
    obtain ⟨a1, a2, a3, a4⟩ := g1
    rw [jlt_in k0 (by omega), Option.bind_some, f1.r (by omega), y4, jlt_in k0 (by omega), Option.bind_some, f1.r (by omega), y5, W32_in (z := 16 * o 4 k 3) (by omega) (by omega), W32_in (z := 16 * o 4 k 3 + o 4 k 4) (by omega) (by omega), W32_in (z := aSy o k + 12) (by omega) (by omega), t_w1 (by omega) (by omega), Option.bind_some, show (16 * o 4 k 3 + o 4 k 4) % 256 = 16 * o 4 k 3 + o 4 k 4 by omega, jlt_in k0 (by omega), Option.bind_some, jf_neg (by omega), f1.r (by omega), y1]
    have f2 : fFl s (jp w 1000 (X + 21) (aSy o k + 12) (16 * o 4 k 3 + o 4 k 4)) X := f1.jp
    have hw := whO_lo (o := o) v1 v2
    have fin : jE (u_X40_writeSymbols_155 (jp w 1000 (X + 21) (aSy o k + 12) (16 * o 4 k 3 + o 4 k 4)) X k (whO o (o 4 k 0)) (W32 (aSy o k + 14)) X) fun q => q = .inl (jfil (jp w 1000 (X + 21) (aSy o k + 12) (16 * o 4 k 3 + o 4 k 4)) 1000 (X + 21) (aSy o k + 14) 2 (by4 (whO o (o 4 k 0))), [X, k + 1]) := by
      rw [eu_X40_writeSymbols_155]; unfold du_X40_writeSymbols_155
      rw [W32_in (by omega) (by omega), t_w2 (by omega) (by omega) (jin_of (by omega) (by omega)), Option.bind_some, W32_in (by omega) (by omega)]
      exact jS_end rfl
    have hfr : ∀ p, ¬ (aSy o k ≤ p ∧ p < aSy o k + 16 ∧ ¬ p = aSy o k + 13) → fG (jfil (jp w 1000 (X + 21) (aSy o k + 12) (16 * o 4 k 3 + o 4 k 4)) 1000 (X + 21) (aSy o k + 14) 2 (by4 (whO o (o 4 k 0)))) X p = fG u X p := fun p hp => by rw [fG_n (by omega), fG_jp, if_neg (by omega), a4 p (by omega)]
    refine jE_mono (Q := fun q => q = .inl (jfil (jp w 1000 (X + 21) (aSy o k + 12) (16 * o 4 k 3 + o 4 k 4)) 1000 (X + 21) (aSy o k + 14) 2 (by4 (whO o (o 4 k 0))), [X, k + 1])) ?_ (fun q hq => ?_)
    · simp only []
      by_cases c1 : o 4 k 0 = -1
      · have e : whO o (o 4 k 0) = 0 := by unfold whO; rw [if_pos c1]
        rw [if_pos c1]; rw [e] at fin ⊢; exact fin
      rw [if_neg c1, Option.bind_some]
      by_cases c2 : o 4 k 0 < 4
      · have e : whO o (o 4 k 0) = en o (o 4 k 0).toNat := by unfold whO; rw [if_neg c1, if_pos c2]
        have h3 := hL.2.2.1 (o 4 k 0).toNat (by omega)
        rw [nt (by omega)] at h3
        rw [if_pos c2, Option.bind_some, jlt_in (by omega) (by omega), Option.bind_some, f2.r (by omega), h3]
        rw [e] at fin ⊢; exact fin
      rw [if_neg c2, Option.bind_some]
      by_cases c3 : o 4 k 0 = 4
      · have e : whO o (o 4 k 0) = 65521 := by unfold whO; rw [if_neg c1, if_neg c2, if_pos c3]
        rw [if_pos c3]; rw [e] at fin ⊢; exact fin
      · have e : whO o (o 4 k 0) = 65522 := by unfold whO; rw [if_neg c1, if_neg c2, if_neg c3]
        rw [if_neg c3]; rw [e] at fin ⊢; exact fin
    rw [hq]
    refine ⟨rfl, f2.jw, fun p hp => ?_, fun x x0 x1 => ?_⟩
    · show fG (jfil _ _ _ _ _ _) X p = _
      rw [hfr p (hp k k0 (by omega))]
      exact e2 p fun x x0 x1 => hp x x0 (by omega)
    · by_cases ex : x = k
      · subst ex
        refine ⟨(a1.j (by omega)).w (by omega), (a2.j (by omega)).w (by omega), (a3.j (by omega)).w (by omega), ?_, ?_, fG_2⟩
        · show fG (jfil _ _ _ _ _ _) X _ = _
          rw [fG_n (by omega), fG_jp, if_pos rfl]
        · show fG (jfil _ _ _ _ _ _) X _ = _
          rw [hfr _ (by omega), e2 _ fun z z0 z1 => ?_, hz _ (by omega) (by omega)]
          have ez : aSy o z = bO o 8 + 16 + 16 * tn o z := rfl
          have := tn_inj z0 (show z < o 2 1 0 by omega) x0 k1
          have tz := tn_lo z0 (show z < o 2 1 0 by omega)
          omega
      · have ez : aSy o x = bO o 8 + 16 + 16 * tn o x := rfl
        have hne : ¬ tn o x = tn o k := fun e => ex (tn_inj x0 (by omega) k0 k1 e)
        exact (e3 x x0 (by omega)).of fun p p0 p1 => hfr p (by omega)
  · show jE (b_X40_writeSymbols_2 u X (o 2 1 0)) _
    unfold b_X40_writeSymbols_2
    rw [jlt_in (by omega) (by omega), Option.bind_some, e1.r (by omega), hN, if_neg (by omega)]
    (repeat (first | with_reducible refine jS_pos (by omega) ?_ | with_reducible refine jS_neg (by omega) ?_ | with_reducible refine jS_posB (by omega) ?_ | with_reducible refine jS_negB (by omega) ?_ | with_reducible refine jS_some ?_ | with_reducible refine jS_ls ?_ | with_reducible refine jS_let ?_ | with_reducible refine jS_lt (by omega) (by omega) ?_ | with_reducible refine jS_st (by omega) (by omega) ?_ | with_reducible refine jS_ix (by omega) (by omega) ?_ | with_reducible refine jS_dv (by omega) ?_ | with_reducible refine jS_zb (by omega) ?_ | with_reducible refine jS_bb ?_ | with_reducible refine jS_inr ?_ | with_reducible refine jS_lsB ?_ | with_reducible refine jS_letB ?_ | with_reducible refine jS_ck0 (by omega) ?_ | with_reducible refine jS_ck0B (by omega) ?_ | rw [W32_in (by omega) (by omega)] | rw [W32_aL] | rw [W32_aR] | rw [W32_sL] | rw [W32_mR] | rw [jf_neg (by omega)] | rw [jf_pos (by omega)] | with_reducible refine jS_bb ?_))
    refine jS_end ⟨e1, fun p hp => e2 p fun x x0 x1 => ?_, e3⟩
    have ez : aSy o x = bO o 8 + 16 + 16 * tn o x := rfl
    have tz := tn_lo x0 x1
    omega
end jTput3
