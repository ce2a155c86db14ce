/-! the twin reads a file: starts, symbols, relocations of the object told -/
section jTread8
variable {s t u w : jS} {X n p q f a b x y z e k m lo hi lo' hi' : Int} {g g' : Int → Int} {o : Int → Int → Int → Int} {L M : List (Prop × Int × Int)} {c : Prop} {S : Int} {P : jS → Prop}
theorem tR_st (h : tY u X g n) {Q : jS × Int → Prop} (cont : ∀ t, fRw u t X 4 5 → jf t 1000 (X + 5) 1 = sR g 4 / 2 → (∀ k, 0 ≤ k → k < sR g 4 / 2 → jf t 1000 (X + 4) (1024 + k) = r2 g (fR g 4 + 2 * k)) → jE (u_X40_read_186 t X) Q) : jE (u_X40_read_131 u X) Q := by
  obtain ⟨s0, T0⟩ := id h
  have hP := T0.2.2.2
  have hn := T0.1.n8
  obtain ⟨s1, s2⟩ := hP.s4
  obtain ⟨p1, p2, p3, p4, -⟩ := hP.part (k := 4) (by omega)
  rw [eu_X40_read_131]; unfold du_X40_read_131
  rw [T0.by (by omega) (by omega), Option.bind_some, show (4 : Int).toNat = 4 from rfl, l2i_p, W32_in (by omega) (by omega), jdv_in (by decide), Option.bind_some, I_div_n (by omega) (by omega) (by omega) (by omega), jst_in (by omega) (by omega), Option.bind_some, eu_X40_read_147]; unfold du_X40_read_147
  refine jS_for (fun x t => fRw u t X 4 5 ∧ jf t 1000 (X + 5) 1 = sR g 4 / 2 ∧ ∀ k, 0 ≤ k → k < x → jf t 1000 (X + 4) (1024 + k) = r2 g (fR g 4 + 2 * k)) (fun x => [X, x]) 0 (sR g 4 / 2) (by omega) ⟨fRw.rfl.jp (by omega) (by unfold rD; omega), by (repeat (first | rw [jf_neg (by omega)] | rw [jf_pos (by omega)] | rw [ou_neg (by omega)] | rw [ou_pos (by omega)])), fun k k0 k1 => by omega⟩ (fun x t x0 x1 ⟨e1, e2, e3⟩ => ?_) (fun t ⟨e1, e2, e3⟩ => ?_)
  · show jE (b_X40_read_147 t X x) _
    unfold b_X40_read_147
    obtain ⟨s3, T⟩ := h.rw (e1.wide (by omega) (by omega))
    rw [jlt_in (by omega) (by omega), Option.bind_some, e2, if_pos x1, T.fr (by omega) (by omega) (by omega), Option.bind_some, show (4 : Int).toNat = 4 from rfl, W32_in (z := 2 * x) (by omega) (by omega), W32_in (z := fR g 4 + 2 * x) (by omega) (by omega), t_r2 T.C (by omega) (by omega), Option.bind_some, W32_in (z := 1024 + x) (by omega) (by omega), jst_in (by omega) (by omega), Option.bind_some, W32_in (by omega) (by omega)]
    refine jS_end ⟨rfl, e1.jp (by omega) (by unfold rD; omega), by (repeat (first | rw [jf_neg (by omega)] | rw [jf_pos (by omega)] | rw [ou_neg (by omega)] | rw [ou_pos (by omega)])); exact e2, fun k k0 k1 => ?_⟩
    by_cases c : k = x
    · rw [jf_pos ⟨rfl, rfl, by omega⟩, c]
    · (repeat (first | rw [jf_neg (by omega)] | rw [jf_pos (by omega)] | rw [ou_neg (by omega)] | rw [ou_pos (by omega)])); exact e3 k k0 (by omega)
  · show jE (b_X40_read_147 t X (sR g 4 / 2)) _
    unfold b_X40_read_147
    rw [jlt_in (by omega) (by omega), Option.bind_some, e2, if_neg (by omega)]
    exact jS_inr (cont t e1 e2 e3)
/-- one symbol -/
theorem tR_sy1 (h : tY u X g n) (x0 : 1 ≤ x) (x1 : x < nSy g) (hG : Gd (Lsym g x)) : jE (m_X40_takeSymbol u X (100 + (x - 1)) x) fun r => fRw u r.1 X 6 12 ∧ tSy r.1 X (100 + (x - 1)) (ySw g x) ∧ (∀ a y, X + 6 ≤ a → a < X + 12 → ¬ y = 100 + (x - 1) → jf r.1 1000 a y = jf u 1000 a y) ∧ ∀ k, k < 16 * (100 + (x - 1)) → jf r.1 1000 (X + 12) k = jf u 1000 (X + 12) k := by
  obtain ⟨s0, T0⟩ := id h
  have hP := T0.2.2.2
  have hn := T0.1.n8
  have hl := nSy_lo hP
  have hi := ySy_in hP (x := x) (by omega) x1
  have c1 := (Gd_cons.mp hG).1.1
  obtain ⟨K, hK, K1, K2, K3⟩ := (Gd_cons.mp hG).1.2
  obtain ⟨q0, M, hM, q1⟩ := T0.nl (by omega) x1 c1
  have eK := nmL_one hM hK
  rw [eK] at hM q1
  have eL := nLn_of hM
  have b12 := T0.1.2.1 (ySy g x + 12) (by omega) (by omega)
  rw [em_X40_takeSymbol]; unfold dm_X40_takeSymbol
  rw [T0.sy (by omega) x1, Option.bind_some, T0.nm (by omega) x1 c1, Option.bind_some, t_nlen T0.C hM q0 q1, Option.bind_some]
  generalize hZ : 100 + (x - 1) = Z
  rw [jst_in (by omega) (by omega), Option.bind_some, eu_X40_takeSymbol_24]; unfold du_X40_takeSymbol_24
  refine jS_for (fun i t => fRw u t X 6 12 ∧ jf t 1000 (X + 11) Z = K ∧ (∀ a y, X + 6 ≤ a → a < X + 12 → ¬ y = Z → jf t 1000 a y = jf u 1000 a y) ∧ (∀ k, k < 16 * Z → jf t 1000 (X + 12) k = jf u 1000 (X + 12) k) ∧ ∀ k, 0 ≤ k → k < i → jf t 1000 (X + 12) (16 * Z + k) = g (yNm g x + k)) (fun i => [X, Z, x, ySy g x, i]) 0 K (by omega) ⟨fRw.rfl.jp (by omega) (by unfold rD; omega), by (repeat (first | rw [jf_neg (by omega)] | rw [jf_pos (by omega)] | rw [ou_neg (by omega)] | rw [ou_pos (by omega)])), fun a y a0 a1 hy => by (repeat (first | rw [jf_neg (by omega)] | rw [jf_pos (by omega)] | rw [ou_neg (by omega)] | rw [ou_pos (by omega)])), fun k hk => by (repeat (first | rw [jf_neg (by omega)] | rw [jf_pos (by omega)] | rw [ou_neg (by omega)] | rw [ou_pos (by omega)])), fun k k0 k1 => by omega⟩ (fun i t i0 i1 ⟨e1, e2, e3, e4, e5⟩ => ?_) (fun t ⟨e1, e2, e3, e4, e5⟩ => ?_)
  · show jE (b_X40_takeSymbol_24 t X Z x _ i) _
    unfold b_X40_takeSymbol_24
    obtain ⟨s3, T⟩ := h.rw (e1.wide (by omega) (by omega))
    rw [jlt_in (by omega) (by omega), Option.bind_some, e2, if_pos i1, T.nm (by omega) x1 c1, Option.bind_some, W32_in (z := yNm g x + i) (by omega) (by omega), t_u1 T.C (by omega) (by omega), Option.bind_some, W32_in (z := 16 * Z) (by omega) (by omega), W32_in (z := 16 * Z + i) (by omega) (by omega), jst_in (by omega) (by omega), Option.bind_some, W32_in (by omega) (by omega)]
    refine jS_end ⟨rfl, e1.jp (by omega) (by unfold rD; omega), by (repeat (first | rw [jf_neg (by omega)] | rw [jf_pos (by omega)] | rw [ou_neg (by omega)] | rw [ou_pos (by omega)])); exact e2, fun a y a0 a1 hy => by (repeat (first | rw [jf_neg (by omega)] | rw [jf_pos (by omega)] | rw [ou_neg (by omega)] | rw [ou_pos (by omega)])); exact e3 a y a0 a1 hy, fun k hk => by (repeat (first | rw [jf_neg (by omega)] | rw [jf_pos (by omega)] | rw [ou_neg (by omega)] | rw [ou_pos (by omega)])); exact e4 k hk, fun k k0 k1 => ?_⟩
    by_cases c : k = i
    · rw [jf_pos ⟨rfl, rfl, by omega⟩, c]
    · (repeat (first | rw [jf_neg (by omega)] | rw [jf_pos (by omega)] | rw [ou_neg (by omega)] | rw [ou_pos (by omega)])); exact e5 k k0 (by omega)
  · show jE (b_X40_takeSymbol_24 t X Z x _ K) _
    unfold b_X40_takeSymbol_24
    obtain ⟨s3, T⟩ := h.rw (e1.wide (by omega) (by omega))
    rw [jlt_in (by omega) (by omega), Option.bind_some, e2, if_neg (by omega), eu_X40_takeSymbol_66]; unfold du_X40_takeSymbol_66
    rw [T.wh (by omega) x1, Option.bind_some, jst_in (by omega) (by omega), Option.bind_some, W32_in (z := ySy g x + 4) (by omega) (by omega)]
    have k1 : fRw u (jp t 1000 (X + 6) Z (yWh g x)) X 6 12 := e1.jp (by omega) (by unfold rD; omega)
    obtain ⟨s4, T1⟩ := h.rw (k1.wide (by omega) (by omega))
    rw [t_r4 T1.C (by omega) (by omega), Option.bind_some, jst_in (by omega) (by omega), Option.bind_some, W32_in (z := ySy g x + 8) (by omega) (by omega), l2i_p]
    have k2 : fRw u (jp (jp t 1000 (X + 6) Z (yWh g x)) 1000 (X + 7) Z (W32 (r4 g (ySy g x + 4)))) X 6 12 := k1.jp (by omega) (by unfold rD; omega)
    obtain ⟨s5, T2⟩ := h.rw (k2.wide (by omega) (by omega))
    rw [t_r4 T2.C (by omega) (by omega), Option.bind_some, jst_in (by omega) (by omega), Option.bind_some, l2i_p]
    have k3 : fRw u (jp (jp (jp t 1000 (X + 6) Z (yWh g x)) 1000 (X + 7) Z (W32 (r4 g (ySy g x + 4)))) 1000 (X + 8) Z (W32 (r4 g (ySy g x + 8)))) X 6 12 := k2.jp (by omega) (by unfold rD; omega)
    obtain ⟨s6, T3⟩ := h.rw (k3.wide (by omega) (by omega))
    rw [T3.bd (by omega) x1, Option.bind_some, jst_in (by omega) (by omega), Option.bind_some, W32_in (z := ySy g x + 12) (by omega) (by omega)]
    have k4 : fRw u (jp (jp (jp (jp t 1000 (X + 6) Z (yWh g x)) 1000 (X + 7) Z (W32 (r4 g (ySy g x + 4)))) 1000 (X + 8) Z (W32 (r4 g (ySy g x + 8)))) 1000 (X + 9) Z (yHw g x)) X 6 12 := k3.jp (by omega) (by unfold rD; omega)
    obtain ⟨s7, T4⟩ := h.rw (k4.wide (by omega) (by omega))
    rw [t_u1 T4.C (by omega) (by omega), Option.bind_some, jst_in (by omega) (by omega), Option.bind_some, I_and_15]
    refine jS_inr (jS_end ⟨k4.jp (by omega) (by unfold rD; omega), ⟨?_, ?_, ?_, ?_, ?_, ?_, fun i i0 i1 => ?_⟩, fun a y a0 a1 hy => by (repeat (first | rw [jf_neg (by omega)] | rw [jf_pos (by omega)] | rw [ou_neg (by omega)] | rw [ou_pos (by omega)])); exact e3 a y a0 a1 hy, fun k hk => by (repeat (first | rw [jf_neg (by omega)] | rw [jf_pos (by omega)] | rw [ou_neg (by omega)] | rw [ou_pos (by omega)])); exact e4 k hk⟩)
    · (repeat (first | rw [jf_neg (by omega)] | rw [jf_pos (by omega)] | rw [ou_neg (by omega)] | rw [ou_pos (by omega)])); rfl
    · (repeat (first | rw [jf_neg (by omega)] | rw [jf_pos (by omega)] | rw [ou_neg (by omega)] | rw [ou_pos (by omega)])); rfl
    · (repeat (first | rw [jf_neg (by omega)] | rw [jf_pos (by omega)] | rw [ou_neg (by omega)] | rw [ou_pos (by omega)])); rfl
    · (repeat (first | rw [jf_neg (by omega)] | rw [jf_pos (by omega)] | rw [ou_neg (by omega)] | rw [ou_pos (by omega)])); rfl
    · (repeat (first | rw [jf_neg (by omega)] | rw [jf_pos (by omega)] | rw [ou_neg (by omega)] | rw [ou_pos (by omega)])); rfl
    · (repeat (first | rw [jf_neg (by omega)] | rw [jf_pos (by omega)] | rw [ou_neg (by omega)] | rw [ou_pos (by omega)])); rw [e2]; exact eL.symm
    · have i1 : i < nLn g (yNm g x) := i1
      (repeat (first | rw [jf_neg (by omega)] | rw [jf_pos (by omega)] | rw [ou_neg (by omega)] | rw [ou_pos (by omega)]))
      rw [e5 i i0 (by omega)]
      show _ = ySw g x (6 + i)
      unfold ySw
      rw [if_neg (by omega), if_neg (by omega), if_neg (by omega), if_neg (by omega), if_neg (by omega), if_neg (by omega), show 6 + i - 6 = i by omega]
theorem tR_sy (h : tY u X g n) (hG : ∀ x, 1 ≤ x → x < nSy g → Gd (Lsym g x)) {Q : jS × Int → Prop} (cont : ∀ t, fRw u t X 6 13 → jf t 1000 (X + 13) 1 = nSy g - 1 → (∀ k, 0 ≤ k → k < nSy g - 1 → tSy t X (100 + k) (ySw g (k + 1))) → jE (u_X40_read_227 t X) Q) : jE (u_X40_read_186 u X) Q := by
  obtain ⟨s0, T0⟩ := id h
  have hP := T0.2.2.2
  have hl := nSy_lo hP
  rw [eu_X40_read_186]; unfold du_X40_read_186
  rw [T0.si, Option.bind_some, W32_in (by omega) (by omega), jst_in (by omega) (by omega), Option.bind_some, eu_X40_read_200]; unfold du_X40_read_200
  refine jS_for (fun x t => fRw u t X 6 13 ∧ jf t 1000 (X + 13) 1 = nSy g - 1 ∧ ∀ k, 0 ≤ k → k < x → tSy t X (100 + k) (ySw g (k + 1))) (fun x => [X, x]) 0 (nSy g - 1) (by omega) ⟨fRw.rfl.jp (by omega) (by unfold rD; omega), by (repeat (first | rw [jf_neg (by omega)] | rw [jf_pos (by omega)] | rw [ou_neg (by omega)] | rw [ou_pos (by omega)])), fun k k0 k1 => by omega⟩ (fun x t x0 x1 ⟨e1, e2, e3⟩ => ?_) (fun t ⟨e1, e2, e3⟩ => ?_)
  · show jE (b_X40_read_200 t X x) _
    unfold b_X40_read_200
    have h1 := h.rw (e1.wide (by omega) (by omega))
    rw [jlt_in (by omega) (by omega), Option.bind_some, e2, if_pos x1, W32_in (z := 100 + x) (by omega) (by omega), W32_in (z := 1 + x) (by omega) (by omega)]
    have := tR_sy1 h1 (x := 1 + x) (by omega) (by omega) (hG _ (by omega) (by omega))
    rw [show 1 + x - 1 = x by omega] at this
    refine jS_call this fun r ⟨r1, r2, r3, r4⟩ => ?_
    rw [W32_in (by omega) (by omega)]
    refine jS_end ⟨rfl, e1.trans (r1.wide (by omega) (by omega)), by rw [r1.r (by omega)]; exact e2, fun k k0 k1 => ?_⟩
    by_cases c : k = x
    · rw [c, show x + 1 = 1 + x by omega]; exact r2
    · have v := (Gd_cons.mp (hG (k + 1) (by omega) (by omega))).1.2
      obtain ⟨K, hK, K1, K2, K3⟩ := v
      have eL := nLn_of hK
      obtain ⟨f1, f2, f3, f4, f5, f6, f7⟩ := e3 k k0 (by omega)
      refine ⟨by rw [r3 _ _ (by omega) (by omega) (by omega)]; exact f1, by rw [r3 _ _ (by omega) (by omega) (by omega)]; exact f2, by rw [r3 _ _ (by omega) (by omega) (by omega)]; exact f3, by rw [r3 _ _ (by omega) (by omega) (by omega)]; exact f4, by rw [r3 _ _ (by omega) (by omega) (by omega)]; exact f5, by rw [r3 _ _ (by omega) (by omega) (by omega)]; exact f6, fun i i0 i1 => ?_⟩
      have i2 : i < nLn g (yNm g (k + 1)) := i1
      rw [r4 _ (by omega)]; exact f7 i i0 i1
  · show jE (b_X40_read_200 t X (nSy g - 1)) _
    unfold b_X40_read_200
    rw [jlt_in (by omega) (by omega), Option.bind_some, e2, if_neg (by omega)]
    exact jS_inr (cont t e1 e2 e3)
/-- one relocation -/
theorem tR_mv1 (h : tY u X g n) (S0 : 0 ≤ S) (S1 : S < 3) (x0 : 0 ≤ x) (x1 : x < sR g (5 + S.toNat) / 12) (hz : jf u 1000 (X + 19) 1 = bRl g S + x) : jE (m_X40_takeRelocation u X S (fR g (5 + S.toNat) + 12 * x)) fun r => fRw u r.1 X 14 19 ∧ jf r.1 1000 (X + 19) 1 = bRl g S + x + 1 ∧ tRl r.1 X (300 + (bRl g S + x)) (oR g 5 (bRl g S + x)) ∧ ∀ a y, X + 14 ≤ a → a < X + 19 → ¬ y = 300 + (bRl g S + x) → jf r.1 1000 a y = jf u 1000 a y := by
  obtain ⟨s0, T0⟩ := id h
  have hP := T0.2.2.2
  have hn := T0.1.n8
  obtain ⟨p1, p2, p3, p4, p5⟩ := hP.part (k := 5 + S.toNat) (by omega)
  obtain ⟨b1, b2, b3⟩ := bRl_lo hP S0 S1
  obtain ⟨o1, o2⟩ := sOf_b hP S0 S1 x0 x1
  have h52 := p4 (by omega)
  rw [em_X40_takeRelocation]; unfold dm_X40_takeRelocation
  rw [jlt_in (by omega) (by omega), Option.bind_some, hz]
  simp only [jlet]
  rw [show oR g 5 (bRl g S + x) = mRw g S (fR g (5 + S.toNat) + 12 * x) by rw [← o2]; show mRw g (sOf g (bRl g S + x)) (pOf g (bRl g S + x)) = _; rw [o1]]
  generalize hp : fR g (5 + S.toNat) + 12 * x = p at *
  obtain ⟨m1, m2, m3⟩ := r4_m T0.1.2.1 (p := p + 4) (by omega) (by omega)
  have v4 := r4_lo T0.1.2.1 (p := p + 4) (by omega) (by omega)
  rw [W32_in (z := 300 + (bRl g S + x)) (by omega) (by omega)]
  generalize hZ : 300 + (bRl g S + x) = Z at *
  rw [jst_in (by omega) (by omega), Option.bind_some, W32_in (z := p + 4) (by omega) (by omega), W32_in (z := p + 8) (by omega) (by omega)]
  have k1 : fRw u (jp u 1000 (X + 14) Z S) X 14 19 := fRw.rfl.jp (by omega) (by unfold rD; omega)
  obtain ⟨s1, T1⟩ := h.rw (k1.wide (by omega) (by omega))
  rw [t_r4 T1.C (by omega) (by omega), Option.bind_some, jst_in (by omega) (by omega), Option.bind_some, l2i_p]
  have k2 : fRw u (jp (jp u 1000 (X + 14) Z S) 1000 (X + 15) Z (W32 (r4 g p))) X 14 19 := k1.jp (by omega) (by unfold rD; omega)
  obtain ⟨s2, T2⟩ := h.rw (k2.wide (by omega) (by omega))
  rw [t_u1 T2.C (by omega) (by omega), Option.bind_some, jst_in (by omega) (by omega), Option.bind_some]
  have k3 : fRw u (jp (jp (jp u 1000 (X + 14) Z S) 1000 (X + 15) Z (W32 (r4 g p))) 1000 (X + 16) Z (g (p + 4))) X 14 19 := k2.jp (by omega) (by unfold rD; omega)
  obtain ⟨s3, T3⟩ := h.rw (k3.wide (by omega) (by omega))
  rw [t_r4 T3.C (by omega) (by omega), Option.bind_some, jdv_in (by decide), Option.bind_some, L_div_n (by omega) (by omega) (by omega) (by omega), l2i_p, W32_in (z := r4 g (p + 4) / 256) (by omega) (by omega), W32_in (z := r4 g (p + 4) / 256 - 1) (by omega) (by omega), jst_in (by omega) (by omega), Option.bind_some]
  have k4 : fRw u (jp (jp (jp (jp u 1000 (X + 14) Z S) 1000 (X + 15) Z (W32 (r4 g p))) 1000 (X + 16) Z (g (p + 4))) 1000 (X + 17) Z (r4 g (p + 4) / 256 - 1)) X 14 19 := k3.jp (by omega) (by unfold rD; omega)
  obtain ⟨s4, T4⟩ := h.rw (k4.wide (by omega) (by omega))
  rw [t_r4 T4.C (by omega) (by omega), Option.bind_some, jst_in (by omega) (by omega), Option.bind_some, l2i_p]
  have k5 : fRw u (jp (jp (jp (jp (jp u 1000 (X + 14) Z S) 1000 (X + 15) Z (W32 (r4 g p))) 1000 (X + 16) Z (g (p + 4))) 1000 (X + 17) Z (r4 g (p + 4) / 256 - 1)) 1000 (X + 18) Z (W32 (r4 g (p + 8)))) X 14 19 := k4.jp (by omega) (by unfold rD; omega)
  rw [jlt_in (by omega) (by omega), Option.bind_some, jf_neg (by omega), jf_neg (by omega), jf_neg (by omega), jf_neg (by omega), jf_neg (by omega), hz, W32_in (z := bRl g S + x + 1) (by omega) (by omega), jst_in (by omega) (by omega), Option.bind_some]
  refine jS_end ⟨k5.jp (by omega) (by unfold rD; omega), by (repeat (first | rw [jf_neg (by omega)] | rw [jf_pos (by omega)] | rw [ou_neg (by omega)] | rw [ou_pos (by omega)])), ⟨?_, ?_, ?_, ?_, ?_⟩, fun a y a0 a1 hy => by (repeat (first | rw [jf_neg (by omega)] | rw [jf_pos (by omega)] | rw [ou_neg (by omega)] | rw [ou_pos (by omega)]))⟩
  · (repeat (first | rw [jf_neg (by omega)] | rw [jf_pos (by omega)] | rw [ou_neg (by omega)] | rw [ou_pos (by omega)])); rfl
  · (repeat (first | rw [jf_neg (by omega)] | rw [jf_pos (by omega)] | rw [ou_neg (by omega)] | rw [ou_pos (by omega)])); rfl
  · (repeat (first | rw [jf_neg (by omega)] | rw [jf_pos (by omega)] | rw [ou_neg (by omega)] | rw [ou_pos (by omega)])); rfl
  · (repeat (first | rw [jf_neg (by omega)] | rw [jf_pos (by omega)] | rw [ou_neg (by omega)] | rw [ou_pos (by omega)])); rfl
  · (repeat (first | rw [jf_neg (by omega)] | rw [jf_pos (by omega)] | rw [ou_neg (by omega)] | rw [ou_pos (by omega)])); rfl
theorem tRl.of {w : Int → Int} {x : Int} (h : tRl s X x w) (e : ∀ a, X + 14 ≤ a → a < X + 19 → jf t 1000 a x = jf s 1000 a x) : tRl t X x w := h.keep e
theorem tR_mv (h : tY u X g n) {Q : jS × Int → Prop} (cont : ∀ t, fRw u t X 14 19 → jf t 1000 (X + 19) 1 = bRl g 3 → (∀ k, 0 ≤ k → k < bRl g 3 → tRl t X (300 + k) (oR g 5 k)) → Q (t, 0)) : jE (u_X40_read_227 u X) Q := by
  obtain ⟨s0, T0⟩ := id h
  have hP := T0.2.2.2
  have hn := T0.1.n8
  rw [eu_X40_read_227]; unfold du_X40_read_227
  rw [jst_in (by omega) (by omega), Option.bind_some, eu_X40_read_236]; unfold du_X40_read_236
  refine jS_for (fun S t => fRw u t X 14 19 ∧ jf t 1000 (X + 19) 1 = bRl g S ∧ ∀ k, 0 ≤ k → k < bRl g S → tRl t X (300 + k) (oR g 5 k)) (fun S => [X, S]) 0 3 (by omega) ⟨fRw.rfl.jp (by omega) (by unfold rD; omega), by (repeat (first | rw [jf_neg (by omega)] | rw [jf_pos (by omega)] | rw [ou_neg (by omega)] | rw [ou_pos (by omega)])); rfl, fun k k0 k1 => by have : bRl g 0 = 0 := rfl; omega⟩ (fun S t S0 S1 ⟨e1, e2, e3⟩ => ?_) (fun t ⟨e1, e2, e3⟩ => ?_)
  · show jE (b_X40_read_236 t X S) _
    unfold b_X40_read_236
    obtain ⟨s1, T⟩ := h.rw (e1.wide (by omega) (by omega))
    obtain ⟨p1, p2, p3, p4, p5⟩ := hP.part (k := 5 + S.toNat) (by omega)
    obtain ⟨b1, b2, b3⟩ := bRl_lo hP S0 S1
    have e5 : (5 + S).toNat = 5 + S.toNat := by omega
    rw [if_pos S1, W32_in (z := 5 + S) (by omega) (by omega), T.by (by omega) (by omega), Option.bind_some, e5, jdv_in (by decide), Option.bind_some, L_div_n (by omega) (by omega) (by omega) (by omega)]
    simp only [jlet]
    rw [l2i_p, W32_in (by omega) (by omega), eu_X40_read_257]; unfold du_X40_read_257
    have e287 : ∀ w, u_X40_read_287 w X S = some (.inl (w, [X, S + 1])) := fun w => by
      rw [eu_X40_read_287]; unfold du_X40_read_287
      rw [W32_in (by omega) (by omega)]
    refine jS_for (fun x t => fRw u t X 14 19 ∧ jf t 1000 (X + 19) 1 = bRl g S + x ∧ ∀ k, 0 ≤ k → k < bRl g S + x → tRl t X (300 + k) (oR g 5 k)) (fun x => [X, S, sR g (5 + S.toNat) / 12, x]) 0 (sR g (5 + S.toNat) / 12) (by omega) ⟨e1, by rw [e2]; omega, fun k k0 k1 => e3 k k0 (by omega)⟩ (fun x t x0 x1 ⟨e1, e2, e3⟩ => ?_) (fun t ⟨e1, e2, e3⟩ => ?_)
    · show jE (b_X40_read_257 t X S _ x) _
      unfold b_X40_read_257
      have h1 := h.rw (e1.wide (by omega) (by omega))
      obtain ⟨s2, T1⟩ := id h1
      rw [if_pos x1, W32_in (z := 5 + S) (by omega) (by omega), T1.fr (by omega) (by omega) (by omega), Option.bind_some, e5, W32_in (z := 12 * x) (by omega) (by omega), W32_in (z := fR g (5 + S.toNat) + 12 * x) (by omega) (by omega)]
      refine jS_call (tR_mv1 h1 S0 S1 x0 x1 e2) fun r ⟨r1, r2, r3, r4⟩ => ?_
      rw [W32_in (by omega) (by omega)]
      refine jS_end ⟨rfl, e1.trans r1, by rw [r2]; omega, fun k k0 k1 => ?_⟩
      by_cases c : k = bRl g S + x
      · rw [c]; exact r3
      · exact (e3 k k0 (by omega)).of fun a a0 a1 => r4 a _ a0 a1 (by omega)
    · show jE (b_X40_read_257 t X S _ (sR g (5 + S.toNat) / 12)) _
      unfold b_X40_read_257
      rw [if_neg (by omega), e287]
      exact jS_inr (jS_end ⟨rfl, e1, by rw [e2]; exact b2, fun k k0 k1 => e3 k k0 (by omega)⟩)
  · show jE (b_X40_read_236 t X 3) _
    unfold b_X40_read_236
    rw [if_neg (by omega)]
    exact jS_inr (jS_end (cont t e1 e2 e3))
/-- what a reading changes, all told -/
def fRe (s t : jS) (X : Int) : Prop := jSm s t ∧ ∀ c a k, ¬ (c = 1000 ∧ (a = X + 32 ∨ a = X + 33)) → ¬ (c = 44 ∧ a = X ∧ (k = 23 ∨ k = 39 ∨ k = 40)) → ¬ (c = 1000 ∧ rD X a k) → jf t c a k = jf s c a k
theorem fRd.re (h : fRd s t X) : fRe s t X := ⟨h.1, fun c a k p q _ => h.2 c a k p q⟩
theorem fRe.rw (h : fRe s t X) (k : fRw t u X lo hi) : fRe s u X := ⟨h.1.trans k.1, fun c a i p q r => (k.2 c a i fun ⟨z, _, _, z'⟩ => r ⟨z, z'⟩).trans (h.2 c a i p q r)⟩
def tRB (s : jS) (X : Int) (f p : Int) (q : jS × Int) : Prop := ¬ f = 0 ∧ q.2 = f ∧ fRd s q.1 X ∧ jf q.1 44 X 23 = p
def tRO (s : jS) (X : Int) (g : Int → Int) (q : jS × Int) : Prop := q.2 = 0 ∧ fRe s q.1 X ∧ jf q.1 44 X 23 = -1 ∧ tOb q.1 X 1 (oR g)
theorem t_read (C : tCf s X g n) : jE (m_X40_read s X) (ckR (tRO s X g) (tBD s X) (Lall g n)) := by
  obtain ⟨q, eq, hq⟩ := t_all C
  rw [em_X40_read]; unfold dm_X40_read
  rw [eq, Option.bind_some]
  rcases hq with ⟨hg, q1, T⟩ | ⟨f, p, hf, hb⟩
  rotate_left
  · rw [if_neg (by rw [hb.2.1]; exact hb.1)]
    exact jS_end (.inr ⟨f, p, hf, hb⟩)
  rw [if_pos q1]
  simp only [jls]
  have hP := T.2.2.2
  have hl := nSy_lo hP
  have hS : ∀ x, 1 ≤ x → x < nSy g → Gd (Lsym g x) := by
    unfold Lall Lsyms at hg
    simp only [Gd_app] at hg
    exact ckF_gd.mp hg.2.2.2.2.2.1.2.1
  have T1 : tY (jp q.1 44 X 23 (-1)) X g n := ⟨s, T.jp⟩
  have k1 : fRd s (jp q.1 44 X 23 (-1)) X := T.jp.2.1.1
  have e23 : jf (jp q.1 44 X 23 (-1)) 44 X 23 = -1 := jf_pos ⟨rfl, rfl, rfl⟩
  generalize jp q.1 44 X 23 (-1) = u at T1 k1 e23 ⊢
  refine tR_sec T1 fun t1 f1 a1 => ?_
  have T2 := T1.rw (f1.wide (by omega) (by omega))
  refine tR_st T2 fun t2 f2 a2 a2' => ?_
  have T3 := T2.rw (f2.wide (by omega) (by omega))
  refine tR_sy T3 hS fun t3 f3 a3 a3' => ?_
  have T4 := T3.rw (f3.wide (by omega) (by omega))
  refine tR_mv T4 fun t4 f4 a4 a4' => ?_
  refine .inl ⟨hg, rfl, (((k1.re.rw f1).rw f2).rw f3).rw f4, ?_, ?_, ?_, ?_, ?_, ?_, ?_⟩
  · show jf t4 44 X 23 = -1
    rw [f4.i, f3.i, f2.i, f1.i]; exact e23
  · intro y y0 y1
    obtain ⟨b1, b2, -⟩ := a1 y y0 y1
    refine ⟨?_, ?_⟩
    · show jf t4 1000 (X + 2) (4 * 1 + y) = sR g y.toNat
      rw [f4.r (by omega), f3.r (by omega), f2.r (by omega), show 4 * 1 + y = 4 + y by omega]; exact b1
    · show jf t4 1000 (X + 3) (4 * 1 + y) = aRd g y.toNat
      rw [f4.r (by omega), f3.r (by omega), f2.r (by omega), show 4 * 1 + y = 4 + y by omega]; exact b2
  · intro y k y0 y1 k0 k1
    have k1 : k < sR g y.toNat := k1
    show jf t4 1000 (X + 1) (6144 * 1 + (2048 * y + k)) = g (fR g y.toNat + k)
    rw [f4.r (by omega), f3.r (by omega), f2.r (by omega), show 6144 * 1 + (2048 * y + k) = 6144 + (2048 * y + k) by omega]
    exact (a1 y y0 (by omega)).2.2 y1 k k0 k1
  · refine ⟨?_, ?_, ?_⟩
    · show jf t4 1000 (X + 5) 1 = sR g 4 / 2
      rw [f4.r (by omega), f3.r (by omega)]; exact a2
    · show jf t4 1000 (X + 13) 1 = nSy g - 1
      rw [f4.r (by omega)]; exact a3
    · exact a4
  · intro k k0 k1
    have k1 : k < sR g 4 / 2 := k1
    show jf t4 1000 (X + 4) (1024 * 1 + k) = r2 g (fR g 4 + 2 * k)
    rw [f4.r (by omega), f3.r (by omega), show 1024 * 1 + k = 1024 + k by omega]; exact a2' k k0 k1
  · intro k k0 k1
    have k1 : k < nSy g - 1 := k1
    show tSy t4 X (100 * 1 + k) (ySw g (k + 1))
    rw [show 100 * 1 + k = 100 + k by omega]
    obtain ⟨h1, h2, h3, h4, h5, h6, h7⟩ := a3' k k0 k1
    exact ⟨by rw [f4.r (by omega)]; exact h1, by rw [f4.r (by omega)]; exact h2, by rw [f4.r (by omega)]; exact h3, by rw [f4.r (by omega)]; exact h4, by rw [f4.r (by omega)]; exact h5, by rw [f4.r (by omega)]; exact h6, fun i i0 i1 => by rw [f4.r (by omega)]; exact h7 i i0 i1⟩
  · intro k k0 k1
    have k1 : k < bRl g 3 := k1
    rw [show 300 * 1 + k = 300 + k by omega]; exact a4' k k0 k1
end jTread8
