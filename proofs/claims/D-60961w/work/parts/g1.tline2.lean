/-! the twin reads a line -/
section jTline2
variable {s t u w v' : jS} {U n p p' q' r k c f v y e d o z a a' b' pl v6 mk i0 ln : Int} {g : Int → Int} {l m : List Int} {NL : List (List Int)} {W : wR4} {st st' : pS} {I I' E L L1 L2 : pI} {D D' : Int → Prop} {q : qS} {OL : List pvO} {SL SL0 : List pvS} {x : pvS} {b : pvB}
theorem wd1_dg (hb : byG g n) (r0 : 0 ≤ r) (r1 : r ≤ n) (h : (wd1 g n r).1 = 2) (h2 : (wd1 g n r).2.2.2 = (wd1 g n r).2.2.1 + 1) : 0 ≤ (wd1 g n r).2.1 ∧ (wd1 g n r).2.1 ≤ 9 := by
  unfold wd1 at h h2 ⊢
  by_cases c0 : bt g n r = 10 ∨ bt g n r = -1
  · rw [if_pos c0] at h; exact absurd h (by show ¬ (0 : Int) = 2; decide)
  rw [if_neg c0] at h h2 ⊢
  have rn : r < n := bt_ne hb r0 (fun z => c0 (.inr z))
  by_cases c1 : isBg (bt g n r)
  · rw [cif_pos c1] at h
    unfold wdI at h
    split at h
    · exact absurd h (by show ¬ (6 : Int) = 2; decide)
    split at h
    · exact absurd h (by show ¬ (7 : Int) = 2; decide)
    · exact absurd h (by show ¬ (1 : Int) = 2; decide)
  rw [cif_neg c1] at h h2 ⊢
  by_cases c2 : isDg (bt g n r)
  · rw [cif_pos c2] at h h2 ⊢
    have far : ∀ f e, f = r + 2 → f ≤ n → ¬ hxO (-1) < e → (wdG g n r f e).1 = 2 → ¬ (wdG g n r f e).2.2.2 = (wdG g n r f e).2.2.1 + 1 := fun f e hf f1 he z z2 => by
      obtain ⟨⟨s1, s2, s3⟩, s4⟩ := up_to (g := g) (n := n) (P := fun c => hxO c < e) he f1
      unfold wdG at z z2
      generalize up g n (fun c => hxO c < e) f = q1 at *
      split at z
      · exact absurd z (by show ¬ (6 : Int) = 2; decide)
      · rename_i y
        rw [if_neg y] at z2
        have z2 : q1 = r + 1 := z2
        omega
    have hx : ∀ e, e ≤ 16 → ¬ hxO (-1) < e := fun e he => by have : hxO (-1) = 16 := rfl; omega
    have b2 := (bt_lo (k := r + 1) hb (by omega)).2.2
    have b3 := (bt_lo (k := r + 2) hb (by omega)).2.2
    unfold wdN at h h2 ⊢
    split at h
    · rename_i y
      rw [if_pos y] at h2
      exact absurd h2 (far (r + 2) 16 rfl (by omega) (hx 16 (by omega)) h)
    rename_i y1
    rw [if_neg y1] at h2 ⊢
    split at h
    · rename_i y
      rw [if_pos y] at h2
      exact absurd h2 (far (r + 2) 2 rfl (by omega) (hx 2 (by omega)) h)
    rename_i y2
    rw [if_neg y2] at h2 ⊢
    by_cases c3 : (bt g n (r + 1) = 98 ∨ bt g n (r + 1) = 102) ∧ ¬ isIn (bt g n (r + 2))
    · rw [cif_pos c3] at h; exact absurd h (by show ¬ (3 : Int) = 2; decide)
    · rw [cif_neg c3] at h h2 ⊢
      unfold wdG at h h2 ⊢
      split at h
      · exact absurd h (by show ¬ (6 : Int) = 2; decide)
      rename_i y
      rw [if_neg y] at h2 ⊢
      generalize up g n (fun c => hxO c < 10) r = q1 at *
      have h2 : q1 = r + 1 := h2
      have hq : (q1 - r).toNat = 1 := by omega
      show 0 ≤ W32 (dgVl g n r 10 (q1 - r).toNat) ∧ W32 (dgVl g n r 10 (q1 - r).toNat) ≤ 9
      rw [hq]
      have ed : dgVl g n r 10 1 = hxO (bt g n r) := by
        show (if 4294967295 < (0 : Int) then 0 else 0 * 10 + hxO (bt g n (r + ((0 : Nat) : Int)))) = _
        rw [if_neg (by decide), show r + ((0 : Nat) : Int) = r by omega]; omega
      have eh : hxO (bt g n r) = bt g n r - 48 := by unfold hxO; exact if_pos c2
      unfold isDg at c2
      rw [ed, eh, W32_in (by omega) (by omega)]; omega
  rw [cif_neg c2] at h h2 ⊢
  exfalso
  split at h
  · rename_i y
    rw [if_pos y] at h2
    unfold wdC at h h2
    by_cases c3 : inOK g n (r + 1) 39 ∧ bt g n (inT g n (r + 1)) = 39
    · rw [cif_pos c3] at h2
      have h2 : inT g n (r + 1) + 1 = r + 1 := h2
      have : r + 1 < inT g n (r + 1) := by unfold inT; split <;> omega
      omega
    · rw [cif_neg c3] at h; exact absurd h (by show ¬ (6 : Int) = 2; decide)
  split at h
  · unfold wdS at h
    split at h
    · exact absurd h (by show ¬ (4 : Int) = 2; decide)
    · exact absurd h (by show ¬ (6 : Int) = 2; decide)
  unfold wdY at h
  split at h
  · exact absurd h (by show ¬ (5 : Int) = 2; decide)
  · by_cases c3 : sgOK (bt g n r)
    · rw [cif_pos c3] at h; exact absurd h (by show ¬ (5 : Int) = 2; decide)
    · rw [cif_neg c3] at h; exact absurd h (by show ¬ (6 : Int) = 2; decide)
theorem wd_dg (hb : byG g n) (p0 : 0 ≤ p) (p1 : p ≤ n) (h : (wd g n p).1 = 2) (h2 : (wd g n p).2.2.2 = (wd g n p).2.2.1 + 1) : 0 ≤ (wd g n p).2.1 ∧ (wd g n p).2.1 ≤ 9 := by
  obtain ⟨⟨s1, s2, s3⟩, s4⟩ := up_to (g := g) (n := n) (P := spP) (by unfold spP; omega) p1
  unfold wd at h h2 ⊢
  generalize up g n spP p = q0 at *
  by_cases c : bt g n q0 = 35
  · rw [if_pos c] at h h2 ⊢
    obtain ⟨⟨d1, d2, d3⟩, d4⟩ := up_to (g := g) (n := n) (P := cmP) (p := q0) (by unfold cmP; omega) s4
    generalize up g n cmP q0 = q1 at *
    by_cases c2 : bt g n q1 = 10 ∨ bt g n q1 = -1
    · rw [if_pos c2] at h h2 ⊢; exact wd1_dg hb (by omega) d4 h h2
    · rw [if_neg c2] at h; exact absurd h (by show ¬ (6 : Int) = 2; decide)
  · rw [if_neg c] at h h2 ⊢; exact wd1_dg hb (by omega) s4 h h2
theorem y_line : ∀ (m : Nat) (t : jS) (b : pvB) (h : Int), (n + 1 - b.1.1).toNat ≤ m → tB t U g n (b.1.1, b.1.2.1, b.1.2.2, h) b.2.1 → bkT t U b.2.2.1 b.2.2.2 ln → (0 ≤ jf t 43 U 12 ∧ jf t 43 U 12 ≤ b.1.1) → lnOut (jlpW (jc2 b_X39_readLine_2) [U, 1] t) t U g n ln (pvLine g n ln m b)
  | 0, t, b, h, hm, T, _, _ => absurd hm (by have : b.1.1 ≤ n := T.2.2.1.2; omega)
  | m + 1, t, b, h, hm, T, B, hL => by
    have hb := T.1.2.2.1
    have hp : 0 ≤ b.1.1 ∧ b.1.1 ≤ n := T.2.2.1
    have hw := wd_in hb hp.1 hp.2
    have hn := T.1.2.2.2
    have hS := B.2.2.2.2
    have h15 : jf t 43 U 15 = (wd g n b.1.1).1 := T.2.1.1
    have h17 : jf t 43 U 17 = (wd g n b.1.1).2.2.1 := T.2.1.2.1
    obtain ⟨C, hC⟩ : ∃ C, C = jc2 b_X39_readLine_2 := ⟨_, rfl⟩
    rw [← hC]
    have ev : ∀ (u : jS), C [U, 1] u = b_X39_readLine_2 u U 1 := fun u => by rw [hC]; rfl
    unfold pvLine
    have fl : ∀ {f : Int} {e : fE}, e = ((if (wd g n b.1.1).1 = 6 then (wd g n b.1.1).2.1 else f), (wd g n b.1.1).2.2.1) → b_X39_readLine_2 t U 1 = jinr ((m_X39_fail t U f).bind fun q => some (q.1, Wz q.2)) → lnOut (jlpW C [U, 1] t) t U g n ln (.inl e) := fun {f e} he hh => by
      obtain ⟨w, h1, h2⟩ := y_flz (D := winD (7 * 0)) (f := f) T he
      exact ⟨w, by rw [jlpW_r (r := some (w, 0)) (by rw [ev, hh, h1])], (yW.yo (i := 0) h2.1).ya (by omega), h2.2⟩
    have e54 : u_X39_readLine_54 t U = (m_X39_fail t U 5).bind fun q => some (q.1, Wz q.2) := by
      rw [eu_X39_readLine_54]; unfold du_X39_readLine_54; rfl
    have e90 : u_X39_readLine_90 t U = (m_X39_fail t U 8).bind fun q => some (q.1, Wz q.2) := by
      rw [eu_X39_readLine_90]; unfold du_X39_readLine_90; rfl
    have e41n : ¬ (wd g n b.1.1).1 = 1 → u_X39_readLine_41 t U 1 0 = jinr ((m_X39_fail t U 5).bind fun q => some (q.1, Wz q.2)) := fun z => by
      rw [eu_X39_readLine_41]; unfold du_X39_readLine_41
      rw [h15, if_neg z, if_pos rfl, e54]
    have e40 : u_X39_readLine_40 t U 1 = u_X39_readLine_41 t U 1 0 := by
      rw [eu_X39_readLine_40]; unfold du_X39_readLine_40; rfl
    by_cases c6 : (wd g n b.1.1).1 = 6
    · rw [if_pos c6]
      refine fl (f := 5) (by rw [if_pos c6]) ?_
      unfold b_X39_readLine_2
      rw [if_neg (by decide), h15, if_neg (by omega), if_neg (by omega), e40, e41n (by omega)]
    rw [if_neg c6]
    have h7 := hw.2.2.2.1 c6
    have h18 : jf t 43 U 18 = (wd g n b.1.1).2.2.2 := T.2.1.2.2.2.1 c6
    by_cases c0 : (wd g n b.1.1).1 = 0
    · rw [if_pos c0]
      refine ⟨t, h, jlpW_r (r := some (t, 1)) ?_, T, B, hL, yA.rfl, c0⟩
      rw [ev]; unfold b_X39_readLine_2
      rw [if_neg (by decide), h15, if_pos c0, Wz_1]
    rw [if_neg c0]
    have e124 : ∀ (t1 : jS) (NL : List (List Int)) (x2 x3 v o : Int), tB t1 U g n (b.1.1, NL, b.1.2.2, h) b.2.1 → bkT t1 U b.2.2.1 b.2.2.2 ln → jf t1 43 U 12 = jf t 43 U 12 → b.2.2.2.length < 400 → ¬ v = -1 → ∃ w, tB w U g n ((wd g n b.1.1).2.2.2, NL, b.1.2.2, h) b.2.1 ∧ bkT w U b.2.2.1 (b.2.2.2 ++ [(o, v, (b.2.2.1.length : Int), (0 : Int), (wd g n b.1.1).2.2.1, ln)]) ln ∧ yA t1 w U ∧ jf w 43 U 12 = jf t 43 U 12 ∧ u_X39_readLine_124 t1 U 1 x2 x3 v o U = (if x2 = 0 then u_X39_readLine_167 w U 1 x2 x3 b.2.2.2.length else (m_X39_isSign w U 58).bind fun v5 => if v5 = 0 then jinr (u_X39_readLine_161 w U) else u_X39_readLine_167 w U 1 x2 x3 b.2.2.2.length) := fun t1 NL x2 x3 v o T1 B1 h12 hl hv => by
      obtain ⟨w, e1, T2, B2, K2, k12, k0⟩ := y_state (o := o) T1 B1 hl hv
      obtain ⟨w3, z3, e3, T3, K3⟩ := T2.next c6
      refine ⟨w3, T3, B2.rd K3, K2.trans K3.ya, by rw [K3.2 _ _ _ (by omega) (by omega), k12, h12], ?_⟩
      rw [eu_X39_readLine_124]; unfold du_X39_readLine_124
      simp only [jlet]
      rw [e1, Option.bind_some, if_neg (show ¬ (1 : Int) = 0 by decide), jlt_in (by omega) (by omega), Option.bind_some, k0, W32_in (by omega) (by omega), show (b.2.2.2.length : Int) + 1 - 1 = b.2.2.2.length by omega, e3, Option.bind_some]
    have e205 : ∀ (w : jS) (v : Int), (v = 0 ∨ v = 1) → ∀ st2 I2, tB w U g n st2 I2 → ¬ (wd g n st2.1).1 = 6 → ∃ w', u_X39_readLine_205 w U 1 v (6 * (b.2.2.2.length : Int)) (U + 4) = some (.inl (w', [U, 1])) ∧ tB w' U g n ((wd g n st2.1).2.2.2, st2.2) I2 ∧ yRd (jp w 1000 (U + 4) (6 * (b.2.2.2.length : Int)) v) w' U := fun w v hv st2 I2 T2 d6 => by
      have T3 : tB (jp w 1000 (U + 4) (6 * (b.2.2.2.length : Int)) v) U g n st2 I2 := T2.kp ⟨jSm.rfl.jp, fun c a j _ z => jf_neg (by omega)⟩
      obtain ⟨w3, z3, e3, T4, K3⟩ := T3.next d6
      refine ⟨w3, ?_, T4, K3⟩
      rw [eu_X39_readLine_205]; unfold du_X39_readLine_205
      rw [jst_in (by omega) (by omega), Option.bind_some, e3, Option.bind_some]
    by_cases c2 : (wd g n b.1.1).1 = 2 ∧ (wd g n b.1.1).2.2.2 = (wd g n b.1.1).2.2.1 + 1
    · rw [if_pos c2]
      have b1 : b_X39_readLine_2 t U 1 = u_X39_readLine_77 t U 1 1 1 := by
        unfold b_X39_readLine_2
        rw [if_neg (by decide), h15, if_neg c0, if_pos c2.1, h18, h17, W32_in (by omega) (by omega), if_pos (by omega), eu_X39_readLine_41]; unfold du_X39_readLine_41
        rw [h15, if_neg (by omega), if_neg (by decide), eu_X39_readLine_60]; unfold du_X39_readLine_60
        rw [if_neg (by decide), eu_X39_readLine_72]; unfold du_X39_readLine_72; rfl
      rw [eu_X39_readLine_77] at b1
      unfold du_X39_readLine_77 at b1
      rw [jlt_in (by omega) (by omega), Option.bind_some, hS.2.1] at b1
      by_cases c4 : (b.2.2.2.length : Int) = 400
      · rw [if_pos c4, e90] at b1
        rw [if_pos c4]; exact fl (f := 8) (by rw [if_neg c6]) b1
      rw [if_neg c4, if_neg (show ¬ (1 : Int) = 0 by decide), eu_X39_readLine_112] at b1
      unfold du_X39_readLine_112 at b1
      rw [if_neg (show ¬ (1 : Int) = 0 by decide)] at b1
      rw [if_neg c4]
      have v16 : jf t 43 U 16 = (wd g n b.1.1).2.1 := T.2.1.2.2.2.2.1 (.inl c2.1)
      have vd := wd_dg hb hp.1 hp.2 c2.1 c2.2
      obtain ⟨w, T2, B2, K2, k12, e2⟩ := e124 t b.1.2.1 1 1 (wd g n b.1.1).2.1 0 T B rfl (by omega) (by omega)
      rw [v16, e2, if_neg (show ¬ (1 : Int) = 0 by decide), T2.sgn (by omega), Option.bind_some] at b1
      have b1 : b_X39_readLine_2 t U 1 = if (if (wd g n (wd g n b.1.1).2.2.2).1 = 5 ∧ (wd g n (wd g n b.1.1).2.2.2).2.1 = 58 then (1 : Int) else 0) = 0 then jinr (u_X39_readLine_161 w U) else u_X39_readLine_167 w U 1 1 1 b.2.2.2.length := b1
      have e161 : u_X39_readLine_161 w U = (m_X39_fail w U 5).bind fun q => some (q.1, Wz q.2) := by
        rw [eu_X39_readLine_161]; unfold du_X39_readLine_161; rfl
      have no58 : ¬ ((wd g n (wd g n b.1.1).2.2.2).1 = 5 ∧ (wd g n (wd g n b.1.1).2.2.2).2.1 = 58) → ∀ {e : fE}, e = ((if (wd g n (wd g n b.1.1).2.2.2).1 = 6 then (wd g n (wd g n b.1.1).2.2.2).2.1 else 5), (wd g n (wd g n b.1.1).2.2.2).2.2.1) → lnOut (jlpW C [U, 1] t) t U g n ln (.inl e) := fun c {e} he => by
        rw [if_neg c, if_pos rfl, e161] at b1
        obtain ⟨w2, h1, h2⟩ := y_flz (D := winD (7 * 0)) (f := 5) T2 he
        exact ⟨w2, by rw [jlpW_r (r := some (w2, 0)) (by rw [ev, b1, h1])], K2.trans ((yW.yo (i := 0) h2.1).ya (by omega)), h2.2⟩
      by_cases d6 : (wd g n (wd g n b.1.1).2.2.2).1 = 6
      · have hN : pvNeed g n (wd g n b.1.1).2.2.2 58 = .inl ((wd g n (wd g n b.1.1).2.2.2).2.1, (wd g n (wd g n b.1.1).2.2.2).2.2.1) := by unfold pvNeed; rw [if_pos d6]
        rw [hN]; exact no58 (by omega) (by rw [if_pos d6])
      by_cases d58 : (wd g n (wd g n b.1.1).2.2.2).1 = 5 ∧ (wd g n (wd g n b.1.1).2.2.2).2.1 = 58
      rotate_left
      · have hN : pvNeed g n (wd g n b.1.1).2.2.2 58 = .inl (5, (wd g n (wd g n b.1.1).2.2.2).2.2.1) := by unfold pvNeed; rw [if_neg d6, if_neg d58]
        rw [hN]; exact no58 d58 (by rw [if_neg d6])
      have hN : pvNeed g n (wd g n b.1.1).2.2.2 58 = .inr (wd g n (wd g n b.1.1).2.2.2).2.2.2 := by unfold pvNeed; rw [if_neg d6, if_pos d58]
      rw [hN]
      obtain ⟨w5, e5, T5, K5⟩ := e205 w 1 (.inr rfl) _ _ T2 d6
      have hw2 := wd_in hb (p := (wd g n b.1.1).2.2.2) (by omega) h7.2.1
      have h72 := hw2.2.2.2.1 d6
      rw [if_pos d58, if_neg (show ¬ (1 : Int) = 0 by decide), eu_X39_readLine_167] at b1
      unfold du_X39_readLine_167 at b1
      rw [if_neg (show ¬ (1 : Int) = 0 by decide), T2.sgn (by omega), if_pos (show (wd g n ((wd g n b.1.1).2.2.2, b.1.2.1, b.1.2.2, h).1).1 = 5 ∧ (wd g n ((wd g n b.1.1).2.2.2, b.1.2.1, b.1.2.2, h).1).2.1 = 58 from d58), Option.bind_some, if_neg (show ¬ (1 : Int) = 0 by decide), if_neg (show ¬ (1 : Int) = 0 by decide), W32_in (by omega) (by omega), e5] at b1
      rw [jlpW_l (s' := w5) (vs' := [U, 1]) (by rw [ev, b1]), hC]
      have B3 := B2.sort (v := 1)
      have k5 : jf w5 43 U 12 = jf t 43 U 12 := by rw [K5.2 _ _ _ (by omega) (by omega), jf_neg (by omega), k12]
      exact (y_line m w5 (((wd g n (wd g n b.1.1).2.2.2).2.2.2, b.1.2), b.2.1, b.2.2.1, b.2.2.2 ++ [((1 : Int), (wd g n b.1.1).2.1, (b.2.2.1.length : Int), (0 : Int), (wd g n b.1.1).2.2.1, ln)]) h (by show (n + 1 - (wd g n (wd g n b.1.1).2.2.2).2.2.2).toNat ≤ m; omega) T5 (B3.rd K5) (by rw [k5]; show 0 ≤ jf t 43 U 12 ∧ jf t 43 U 12 ≤ (wd g n (wd g n b.1.1).2.2.2).2.2.2; omega)).after ((K2.wr4 (by omega)).trans K5.ya)
    rw [if_neg c2]
    by_cases c1 : (wd g n b.1.1).1 = 1
    rotate_left
    · rw [if_neg c1]
      refine fl (f := 5) (by rw [if_neg c6]) ?_
      unfold b_X39_readLine_2
      rw [if_neg (by decide), h15, if_neg c0]
      by_cases d2 : (wd g n b.1.1).1 = 2
      · rw [if_pos d2, h18, h17, W32_in (by omega) (by omega), if_neg (by omega), e40, e41n c1]
      · rw [if_neg d2, e40, e41n c1]
    rw [if_pos c1]
    have rg : m_X39_register t U = some (rgO (nmO g (wd g n b.1.1).2.2.1 (wd g n b.1.1).2.2.2)) := by
      have := T.reg
      unfold pvReg at this
      rw [if_pos (show (wd g n (b.1.1, b.1.2.1, b.1.2.2, h).1).1 = 1 ∨ (wd g n (b.1.1, b.1.2.1, b.1.2.2, h).1).1 = 7 from .inl c1)] at this
      exact this
    have b0 : b_X39_readLine_2 t U 1 = u_X39_readLine_77 t U 1 0 (if rgO (nmO g (wd g n b.1.1).2.2.1 (wd g n b.1.1).2.2.2) = -1 then 1 else 0) := by
      unfold b_X39_readLine_2
      rw [if_neg (by decide), h15, if_neg c0, if_neg (by omega), e40, eu_X39_readLine_41]; unfold du_X39_readLine_41
      rw [h15, if_pos c1, eu_X39_readLine_60]; unfold du_X39_readLine_60
      rw [if_pos rfl, rg, Option.bind_some, eu_X39_readLine_72]; unfold du_X39_readLine_72
      by_cases cr : rgO (nmO g (wd g n b.1.1).2.2.1 (wd g n b.1.1).2.2.2) = -1
      · rw [if_pos cr, if_pos cr]
      · rw [if_neg cr, if_neg cr]
    rw [eu_X39_readLine_77] at b0
    unfold du_X39_readLine_77 at b0
    rw [jlt_in (by omega) (by omega), Option.bind_some, hS.2.1] at b0
    have nb := T.num c1
    have nb : if nmIx b.1.2.1 (nmO g (wd g n b.1.1).2.2.1 (wd g n b.1.1).2.2.2) = 150 then m_X39_number t U = some (t, -1) else ∃ w, m_X39_number t U = some (w, ((nmIx b.1.2.1 (nmO g (wd g n b.1.1).2.2.1 (wd g n b.1.1).2.2.2) : Nat) : Int)) ∧ tB w U g n (b.1.1, nmAdd b.1.2.1 (nmO g (wd g n b.1.1).2.2.1 (wd g n b.1.1).2.2.2), b.1.2.2, h) b.2.1 ∧ yN t w U := nb
    by_cases c4 : (b.2.2.2.length : Int) = 400
    · rw [if_pos c4, e90] at b0
      rw [if_pos (.inl c4)]; exact fl (f := 8) (by rw [if_neg c6]) b0
    rw [if_neg c4, if_pos rfl] at b0
    by_cases c150 : nmIx b.1.2.1 (nmO g (wd g n b.1.1).2.2.1 (wd g n b.1.1).2.2.2) = 150
    · rw [if_pos (.inr c150)]
      rw [if_pos c150] at nb
      rw [nb, Option.bind_some, eu_X39_readLine_112] at b0
      unfold du_X39_readLine_112 at b0
      rw [if_pos rfl, eu_X39_readLine_124] at b0
      unfold du_X39_readLine_124 at b0
      have e17 : u_X39_state_17 t U = (m_X39_fail t U 8).bind fun q => some (q.1, Wz q.2) := by
        rw [eu_X39_state_17]; unfold du_X39_state_17; rfl
      have es : m_X39_state t U 2 (-1) = (m_X39_fail t U 8).bind fun q => some (q.1, Wz q.2) := by
        rw [em_X39_state]; unfold dm_X39_state
        rw [jlt_in (by omega) (by omega), Option.bind_some, hS.2.1, if_neg c4, if_pos rfl, e17]
      obtain ⟨w, e1, h2⟩ := T.fail (f := 8)
      have h2 : tFl t w U (if (wd g n b.1.1).1 = 6 then (wd g n b.1.1).2.1 else 8) (wd g n b.1.1).2.2.1 := h2
      rw [if_neg c6] at h2
      rw [es, e1, Option.bind_some, Option.bind_some, Wz_0, if_pos rfl] at b0
      exact ⟨w, by rw [jlpW_r (r := some (w, 0)) (by rw [ev, b0])], h2.1.ya, h2.2⟩
    rw [if_neg c150] at nb
    rw [if_neg (fun z => z.elim c4 c150)]
    obtain ⟨t1, e1, T1, K1⟩ := nb
    have B1 : bkT t1 U b.2.2.1 b.2.2.2 ln := B.kpg fun c a k z => K1.2 _ _ _ (by omega) (by omega)
    rw [e1, Option.bind_some, eu_X39_readLine_112] at b0
    unfold du_X39_readLine_112 at b0
    rw [if_pos rfl] at b0
    generalize hNL : nmAdd b.1.2.1 (nmO g (wd g n b.1.1).2.2.1 (wd g n b.1.1).2.2.2) = NL at *
    generalize hIx : nmIx b.1.2.1 (nmO g (wd g n b.1.1).2.2.1 (wd g n b.1.1).2.2.2) = ix at *
    obtain ⟨w, T2, B2, K2, k12, e2⟩ := e124 t1 NL 0 (if rgO (nmO g (wd g n b.1.1).2.2.1 (wd g n b.1.1).2.2.2) = -1 then 1 else 0) ix 2 T1 B1 (K1.2 _ _ _ (by omega) (by omega)) (by omega) (by omega)
    have b0 := b0.trans e2
    rw [if_pos rfl, eu_X39_readLine_167] at b0
    unfold du_X39_readLine_167 at b0
    have K12 : yA t w U := K1.ya.trans K2
    have e180 : u_X39_readLine_180 w U b.2.2.2.length = (m_X39_operands w U b.2.2.2.length).bind fun q1 => some (q1.1, Wz q1.2) := by
      rw [eu_X39_readLine_180]; unfold du_X39_readLine_180; rfl
    have L2 : 0 ≤ jf w 43 U 12 ∧ jf w 43 U 12 ≤ (wd g n b.1.1).2.2.2 := by omega
    have endd : b_X39_readLine_2 t U 1 = jinr (u_X39_readLine_180 w U b.2.2.2.length) → lnOut (jlpW C [U, 1] t) t U g n ln (pvEnd g n ((wd g n b.1.1).2.2.2, NL, b.1.2.2) b.2.1 b.2.2.1 b.2.2.2 ((2 : Int), (ix : Int), (b.2.2.1.length : Int), (0 : Int), (wd g n b.1.1).2.2.1, ln)) := fun hh => by
      have h1 := y_end (q := ((wd g n b.1.1).2.2.2, NL, b.1.2.2)) T2 B2 L2 rfl
      rw [jlpW_r (r := u_X39_readLine_180 w U b.2.2.2.length) (by rw [ev, hh]), e180]
      exact h1.after K12
    have own : (wd g n (wd g n b.1.1).2.2.2).1 = 6 → pvEnd g n ((wd g n b.1.1).2.2.2, NL, b.1.2.2) b.2.1 b.2.2.1 b.2.2.2 ((2 : Int), (ix : Int), (b.2.2.1.length : Int), (0 : Int), (wd g n b.1.1).2.2.1, ln) = .inl ((wd g n (wd g n b.1.1).2.2.2).2.1, (wd g n (wd g n b.1.1).2.2.2).2.2.1) := fun d6 => by
      unfold pvEnd
      rw [if_pos d6]
    by_cases cr : rgO (nmO g (wd g n b.1.1).2.2.1 (wd g n b.1.1).2.2.2) = -1
    rotate_left
    · rw [if_neg cr, if_pos rfl] at b0
      have h1 := endd b0
      by_cases d6 : (wd g n (wd g n b.1.1).2.2.2).1 = 6
      · rw [if_pos d6, ← own d6]; exact h1
      · rw [if_neg d6, if_neg (fun z => cr z.1)]; exact h1
    rw [if_pos cr, if_neg (show ¬ (1 : Int) = 0 by decide), T2.sgn (by omega), Option.bind_some] at b0
    have b0 : b_X39_readLine_2 t U 1 = if (if (wd g n (wd g n b.1.1).2.2.2).1 = 5 ∧ (wd g n (wd g n b.1.1).2.2.2).2.1 = 58 then (1 : Int) else 0) = 0 then jinr (u_X39_readLine_180 w U b.2.2.2.length) else if (0 : Int) = 0 then u_X39_readLine_205 w U 1 0 (W32 (6 * (b.2.2.2.length : Int))) (U + 4) else u_X39_readLine_205 w U 1 1 (W32 (6 * (b.2.2.2.length : Int))) (U + 4) := b0
    by_cases d6 : (wd g n (wd g n b.1.1).2.2.2).1 = 6
    · rw [if_neg (show ¬ ((wd g n (wd g n b.1.1).2.2.2).1 = 5 ∧ (wd g n (wd g n b.1.1).2.2.2).2.1 = 58) by omega), if_pos rfl] at b0
      rw [if_pos d6, ← own d6]; exact endd b0
    rw [if_neg d6]
    by_cases d58 : (wd g n (wd g n b.1.1).2.2.2).1 = 5 ∧ (wd g n (wd g n b.1.1).2.2.2).2.1 = 58
    rotate_left
    · rw [if_neg d58, if_pos rfl] at b0
      rw [if_neg (fun z => d58 z.2)]; exact endd b0
    rw [if_pos ⟨cr, d58⟩]
    obtain ⟨w5, e5, T5, K5⟩ := e205 w 0 (.inl rfl) _ _ T2 d6
    have hw2 := wd_in hb (p := (wd g n b.1.1).2.2.2) (by omega) h7.2.1
    have h72 := hw2.2.2.2.1 d6
    rw [if_pos d58, if_neg (show ¬ (1 : Int) = 0 by decide), if_pos rfl, W32_in (by omega) (by omega), e5] at b0
    rw [jlpW_l (s' := w5) (vs' := [U, 1]) (by rw [ev, b0]), hC]
    have B3 := B2.sort (v := 0)
    have k5 : jf w5 43 U 12 = jf t 43 U 12 := by rw [K5.2 _ _ _ (by omega) (by omega), jf_neg (by omega), k12]
    exact (y_line m w5 (((wd g n (wd g n b.1.1).2.2.2).2.2.2, NL, b.1.2.2), b.2.1, b.2.2.1, b.2.2.2 ++ [((0 : Int), (ix : Int), (b.2.2.1.length : Int), (0 : Int), (wd g n b.1.1).2.2.1, ln)]) h (by show (n + 1 - (wd g n (wd g n b.1.1).2.2.2).2.2.2).toNat ≤ m; omega) T5 (B3.rd K5) (by rw [k5]; show 0 ≤ jf t 43 U 12 ∧ jf t 43 U 12 ≤ (wd g n (wd g n b.1.1).2.2.2).2.2.2; omega)).after ((K12.wr4 (by omega)).trans K5.ya)
end jTline2
