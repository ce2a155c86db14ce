/-! directives: zeros *-/
section jDirec4
variable {s t u w t' : jS} {v A H b lo W k c a hh x y f d n o j i e : Int} {m : Nat} {l : List Int} {NL : List (List Int)} {I : pI} {OL : List pvO} {SL : List pvS} {z : pvS} {zo : pvO} {Q Q' : jS → jS → Int → Prop}
/-- a fault told later by the twin -/
theorem need4 (h : AR s t A H b lo NL I OL SL k z) (tf : tF H t t') (e42 : jf t' 41 H 42 = 0) (e44 : jf t' 41 H 44 = jf t 41 H 44) (ho : ¬ o = 0) : ∃ q r, m_X33_need s A 0 o = some q ∧ m_X37_fail t' H o = some (r, 0) ∧ aBad s t A H q r := by
  obtain ⟨b1, b2, b3⟩ := h.bd
  obtain ⟨q, r, e1, e2, e3⟩ := wrong2 (p := z.2.2.2.2.1) (t := t') b1 b2 e42 ho
  have c1 := h.1.1
  have hH := h.2.2.2.1.2.2.2.2.2.2.2.1.1
  obtain ⟨k0, k1, kz⟩ := h.2.2.2.2
  refine ⟨q, r, ?_, ?_, e3.after cFa.rfl tf⟩
  · rw [em_X33_need]; unfold dm_X33_need
    rw [if_pos rfl, hH.1, c_statement c1 k0 k1 (by decide) (by decide), Option.bind_some, kz]
    exact e1
  · rw [em_X37_fail]; unfold dm_X37_fail
    rw [e44, hH.2, e2, Option.bind_some, Wz_0]
/-- only the size of the section without bytes differs -/
def b3V (H n : Int) (t w : jS) : Prop := tF H t w ∧ jf w 1000 (H + 153) 3 = n ∧ ∀ c a k, ¬ (c = 1000 ∧ a = H + 153 ∧ k = 3) → jf w c a k = jf t c a k
theorem y_put3 (h3 : jf t 41 H 34 = 3) (n0 : 0 ≤ jf t 1000 (H + 153) 3) (n1 : jf t 1000 (H + 153) 3 < 4096) : ∃ w, m_X37_putByte t H x = some (w, 1) ∧ b3V H (jf t 1000 (H + 153) 3 + 1) t w := by
  rw [em_X37_putByte]; unfold dm_X37_putByte
  rw [h3, jlt_in (by decide) (by decide), Option.bind_some, if_pos rfl, eu_X37_putByte_26]; unfold du_X37_putByte_26
  rw [if_neg (by omega), h3, if_neg (by decide), eu_X37_putByte_72]; unfold du_X37_putByte_72
  rw [h3, jlt_in (by decide) (by decide), Option.bind_some, W32_in (by omega) (by omega), jst_in (by decide) (by decide), Option.bind_some, Wz_1]
  obtain ⟨w1, G1⟩ : ∃ w1, w1 = jp t 1000 (H + 153) 3 (jf t 1000 (H + 153) 3 + 1) := ⟨_, rfl⟩
  obtain ⟨g1, r1, -⟩ := jpF G1
  rw [← G1]
  exact ⟨w1, rfl, tF.rfl.wr G1 (by omega), r1, g1⟩
theorem y_put3f (h3 : jf t 41 H 34 = 3) (n1 : jf t 1000 (H + 153) 3 = 4096) : m_X37_putByte t H x = (m_X37_fail t H 18).bind fun q1 => some (q1.1, Wz q1.2) := by
  rw [em_X37_putByte]; unfold dm_X37_putByte
  rw [h3, jlt_in (by decide) (by decide), Option.bind_some, if_pos rfl, eu_X37_putByte_26]; unfold du_X37_putByte_26
  rw [if_pos n1]
theorem b3V.trans {n' : Int} (h : b3V H n' t u) (g : b3V H n u w) : b3V H n t w := ⟨h.1.trans g.1, g.2.1, fun c a k hc => (g.2.2 c a k hc).trans (h.2.2 c a k hc)⟩
theorem z_loop3 : ∀ (m : Nat) (t : jS), m ≤ 4096 → jf t 41 H 34 = 3 → 0 ≤ jf t 1000 (H + 153) 3 → jf t 1000 (H + 153) 3 ≤ 4096 →
    (jf t 1000 (H + 153) 3 + m ≤ 4096 → ∃ w, u_X37_zeros_40 t H m = some (w, 1) ∧ b3V H (jf t 1000 (H + 153) 3 + m) t w) ∧
    (4096 < jf t 1000 (H + 153) 3 + m → ∃ t', b3V H 4096 t t' ∧ ∀ r, m_X37_fail t' H 18 = some (r, 0) → u_X37_zeros_40 t H m = some (r, 0))
  | 0, t, hm, h3, n0, n1 => by
    refine ⟨fun _ => ⟨t, ?_, tF.rfl, by omega, fun _ _ _ _ => rfl⟩, fun h => by omega⟩
    rw [eu_X37_zeros_40]; unfold du_X37_zeros_40
    refine jlpW_r (r := some (t, 1)) ?_
    show b_X37_zeros_40 t H 0 = _
    unfold b_X37_zeros_40
    rw [if_neg (by decide), Wz_1]
  | m + 1, t, hm, h3, n0, n1 => by
    by_cases c : jf t 1000 (H + 153) 3 = 4096
    · refine ⟨fun h => by omega, fun _ => ⟨t, ⟨tF.rfl, c, fun _ _ _ _ => rfl⟩, fun r hr => ?_⟩⟩
      rw [eu_X37_zeros_40]; unfold du_X37_zeros_40
      refine jlpW_r (r := some (r, 0)) ?_
      show b_X37_zeros_40 t H ((m + 1 : Nat) : Int) = _
      unfold b_X37_zeros_40
      rw [if_pos (by omega), y_put3f h3 c, hr]
      show (some (r, Wz 0)).bind _ = _
      rw [Option.bind_some, Wz_0]
      dsimp only
      rw [if_pos rfl]
    · obtain ⟨w, e1, e2⟩ := y_put3 (x := 0) h3 n0 (by omega)
      have st : u_X37_zeros_40 t H ((m + 1 : Nat) : Int) = u_X37_zeros_40 w H m := by
        rw [eu_X37_zeros_40]; unfold du_X37_zeros_40
        refine jlpW_l ?_
        show b_X37_zeros_40 t H ((m + 1 : Nat) : Int) = _
        unfold b_X37_zeros_40
        rw [if_pos (by omega), e1, Option.bind_some]
        dsimp only
        rw [if_neg n10, W32_in (by omega) (by omega), show ((m + 1 : Nat) : Int) + -1 = (m : Int) by omega]
      obtain ⟨i1, i2⟩ := z_loop3 m w (by omega) (by rw [e2.2.2 _ _ _ (by omega)]; exact h3) (by rw [e2.2.1]; omega) (by rw [e2.2.1]; omega)
      rw [e2.2.1] at i1 i2
      rw [st]
      refine ⟨fun h => ?_, fun h => ?_⟩
      · obtain ⟨w', j1, j2⟩ := i1 (by omega)
        rw [show jf t 1000 (H + 153) 3 + 1 + (m : Int) = jf t 1000 (H + 153) 3 + ((m + 1 : Nat) : Int) by omega] at j2
        exact ⟨w', j1, e2.trans j2⟩
      · obtain ⟨t', j1, j2⟩ := i2 (by omega)
        exact ⟨t', e2.trans j1, j2⟩
theorem AR.sz3 (h : AR s t A H b lo NL I OL SL k z) : jf s 1000 (A + 7) 3 = jf t 1000 (H + 153) 3 ∧ 0 ≤ jf t 1000 (H + 153) 3 ∧ jf t 1000 (H + 153) 3 ≤ 4096 := by
  obtain ⟨a1, a2, -⟩ := h.2.2.2.1.2.2.2.1.2.1 3 (by decide) (by decide)
  exact ⟨a1, a2.1, a2.2⟩
/-- the size of the section without bytes on both sides -/
theorem AG.b3 (h : AG s t A H b lo NL I OL SL k z) (e : u = jp s 1000 (A + 7) 3 n) (hw : b3V H n t w) (n0 : 0 ≤ n) (n1 : n ≤ 4096) : AG u w A H b lo NL I OL SL k z ∧ cFa A s u 0 0 := by
  obtain ⟨tf, g0, g1⟩ := hw
  obtain ⟨f1, p1, -⟩ := jpF e
  obtain ⟨aS, aT, aI, ⟨aB1, aB2, aB3⟩, aM, aSt, aK, aH, a0⟩ := h.1.2.2.2.1
  have cF := cF1 (A := A) e (by omega)
  have R : AR u w A H b lo NL I OL SL k z := h.1.mk cF tf ⟨aS.cg (fun c a j _ => f1 _ _ _ (by omega)) (fun c a j _ => g1 _ _ _ (by omega)), aT.cg (fun c a j _ => f1 _ _ _ (by omega)) (fun c a j _ => g1 _ _ _ (by omega)) (by rw [g1 _ _ _ (by omega)]; omega), aI.cg fun a j _ => g1 _ _ _ (by omega), ⟨by rw [f1 _ _ _ (by omega), g1 _ _ _ (by omega)]; exact aB1, fun k' k0 k1 => ?_, fun s' k' s0 s1 k0 k1 => by rw [g1 _ _ _ (by omega)] at k1; rw [f1 _ _ _ (by omega), g1 _ _ _ (by omega)]; exact aB3 s' k' s0 s1 k0 k1⟩, aM.cg (fun c a j _ => f1 _ _ _ (by omega)) (fun c a j _ => g1 _ _ _ (by omega)), aSt.cg (fun c a j _ => f1 _ _ _ (by omega)) (fun c a j _ => g1 _ _ _ (by omega)), aK.cg (fun c a j _ => f1 _ _ _ (by omega)) (fun c a j _ => g1 _ _ _ (by omega)), aH.cg (fun c a j _ => f1 _ _ _ (by omega)) (fun c a j _ => g1 _ _ _ (by omega)) (by rw [g1 _ _ _ (by omega)]; omega), by rw [g1 _ _ _ (by omega)]; exact a0⟩
  · exact ⟨h.bk R ⟨f1 _ _ _ (by omega), f1 _ _ _ (by omega)⟩ ⟨g1 _ _ _ (by omega), g1 _ _ _ (by omega)⟩, cF⟩
  · rw [f1 1000 (A + 8) _ (by omega), g1 1000 (H + 154) _ (by omega)]
    by_cases ck : k' = 3
    · subst ck
      rw [p1, g0]
      exact ⟨rfl, ⟨n0, n1⟩, (aB2 3 k0 k1).2.2⟩
    · rw [f1 _ _ _ (by omega), g1 _ _ _ (by omega)]; exact aB2 k' k0 k1
/-- so many zeros, where bytes are -/
theorem z_loop : ∀ (m : Nat) (s t : jS) (i : Int), AG s t A H b lo NL I OL SL k z → jf t 41 H 34 < 3 → 0 ≤ i → i + m = n → n ≤ 4096 → stO s t A H b lo NL I OL SL k z (u_X33_blank_48 s A n i) (u_X37_zeros_40 t H m) fun u w _ => puQ A H s t m u w
  | 0, s, t, i, h, h3, i0, hi, hn => by
    rw [eu_X33_blank_48, eu_X37_zeros_40]; unfold du_X33_blank_48 du_X37_zeros_40
    have e1 : jlpW (jc3 b_X33_blank_48) [A, n, i] s = some (s, false, 0) := by
      refine jlpW_r (r := some (s, false, 0)) ?_
      show b_X33_blank_48 s A n i = _
      unfold b_X33_blank_48
      rw [if_neg (by omega)]
    have e2 : jlpW (jc2 b_X37_zeros_40) [H, ((0 : Nat) : Int)] t = some (t, 1) := by
      refine jlpW_r (r := some (t, 1)) ?_
      show b_X37_zeros_40 t H 0 = _
      unfold b_X37_zeros_40
      rw [if_neg (by decide), Wz_1]
    rw [e1, e2]
    exact .ret h puQ.rfl
  | m + 1, s, t, i, h, h3, i0, hi, hn => by
    rcases put2 (x := 0) h h3 with ⟨q, r, e1, e2, e3⟩ | ⟨u, w, v, e1, e2, e3, e4, e5, e6⟩
    · left
      refine ⟨q, r, ?_, ?_, e3⟩
      · rw [eu_X33_blank_48]; unfold du_X33_blank_48
        refine jlpW_r (r := some q) ?_
        show b_X33_blank_48 s A n i = _
        unfold b_X33_blank_48
        rw [if_pos (by omega), e1, Option.bind_some, e3.th]; rfl
      · rw [eu_X37_zeros_40]; unfold du_X37_zeros_40
        refine jlpW_r (r := some (r, 0)) ?_
        show b_X37_zeros_40 t H ((m + 1 : Nat) : Int) = _
        unfold b_X37_zeros_40
        rw [if_pos (by omega), e2, Option.bind_some, Wz_0]
        dsimp only
        rw [if_pos rfl]
    · have h3' : jf w 41 H 34 < 3 := by rw [e6.2.1 _ _ _ (by omega)]; exact h3
      have ih := z_loop m u w (i + 1) e3 h3' (by omega) (by omega) hn
      have s1 : u_X33_blank_48 s A n i = u_X33_blank_48 u A n (i + 1) := by
        rw [eu_X33_blank_48]; unfold du_X33_blank_48
        refine jlpW_l ?_
        show b_X33_blank_48 s A n i = _
        unfold b_X33_blank_48
        rw [if_pos (by omega), e1, Option.bind_some]
        dsimp only
        rw [jth_ff, W32_in (by omega) (by omega)]
      have s2 : u_X37_zeros_40 t H ((m + 1 : Nat) : Int) = u_X37_zeros_40 w H m := by
        rw [eu_X37_zeros_40]; unfold du_X37_zeros_40
        refine jlpW_l ?_
        show b_X37_zeros_40 t H ((m + 1 : Nat) : Int) = _
        unfold b_X37_zeros_40
        rw [if_pos (by omega), e2, Option.bind_some]
        dsimp only
        rw [if_neg n10, W32_in (by omega) (by omega), show ((m + 1 : Nat) : Int) + -1 = (m : Int) by omega]
      rw [s1, s2]
      rcases ih with ⟨q, r, d1, d2, d3⟩ | ⟨u', w', v', d1, d2, d3, d4, d5, d6⟩
      · exact .inl ⟨q, r, d1, d2, d3.after e4 e5⟩
      · refine .inr ⟨u', w', v', d1, d2, d3, (e4.trans d4 : cFa A s u' (0 + 0) (0 + 0)), e5.trans d5, ?_⟩
        have := e6.trans d6
        rw [show (1 : Int) + (m : Int) = ((m + 1 : Nat) : Int) by omega] at this
        exact this
theorem blank2 (h : AG s t A H b lo NL I OL SL k z) (n0 : 0 ≤ n) (n1 : n ≤ 4096) : stO s t A H b lo NL I OL SL k z (m_X33_blank s A n) (u_X37_zeros_40 t H n) (dQ t H) := by
  rw [em_X33_blank]; unfold dm_X33_blank
  have a30 := h.1.2.2.2.1.2.2.2.1.1
  obtain ⟨m, hm, -⟩ := nat_of n0
  rw [a30.1]
  by_cases c3 : jf t 41 H 34 = 3
  rotate_left
  · rw [if_neg c3]
    have := z_loop (n := n) m s t 0 h (by omega) (by omega) (by omega) n1
    rw [← hm] at this
    exact this.mono fun a b c q => q.2.1 _ _ _ (by omega)
  obtain ⟨q1, q2, q3⟩ := h.1.sz3
  obtain ⟨z1, z2⟩ := z_loop3 (H := H) m t (by omega) c3 q2 q3
  rw [← hm] at z1 z2
  rw [if_pos c3, jlt_in (by decide) (by decide), Option.bind_some, q1, W32_in (by omega) (by omega)]
  by_cases cl : 4096 < jf t 1000 (H + 153) 3 + n
  · obtain ⟨t', d1, d2⟩ := z2 cl
    obtain ⟨q, r, e1, e2, e3⟩ := need4 (o := 18) h.1 d1.1 (by rw [d1.2.2 _ _ _ (by omega)]; exact h.1.bd.2.2) (d1.2.2 _ _ _ (by omega)) (by decide)
    rw [if_pos cl, eu_X33_blank_28]; unfold du_X33_blank_28
    refine .inl ⟨q, r, ?_, d2 r e2, e3⟩
    rw [e1, Option.bind_some, e3.th]; rfl
  · obtain ⟨w, d1, d2⟩ := z1 (by omega)
    rw [if_neg cl, eu_X33_blank_28]; unfold du_X33_blank_28
    rw [needOk (by decide)]
    dsimp only
    rw [jth_ff, jlt_in (by decide) (by decide), Option.bind_some, q1, W32_in (by omega) (by omega), jst_in (by decide) (by decide), Option.bind_some]
    obtain ⟨u1, E1⟩ : ∃ u1, u1 = jp s 1000 (A + 7) 3 (jf t 1000 (H + 153) 3 + n) := ⟨_, rfl⟩
    rw [← E1]
    obtain ⟨a1, a2⟩ := h.b3 E1 d2 (by omega) (by omega)
    exact .inr ⟨u1, w, 0, rfl, d1, a1, a2, d2.1, d2.2.2 _ _ _ (by omega)⟩
theorem zeros2 (h : AG s t A H b lo NL I OL SL k z) : stO s t A H b lo NL I OL SL k z (m_X33_zeros s A) (m_X37_zeros t H) (dQ t H) := by
  rw [em_X33_zeros, em_X37_zeros]; unfold dm_X33_zeros dm_X37_zeros
  rw [h.2.1.2.2.1, y_are h, Option.bind_some]
  have e0 : z.2.2.1 + 0 = z.2.2.1 := by omega
  have bd : stO s t A H b lo NL I OL SL k z (u_X33_zeros_21 s A A) ((m_X37_fail t H 12).bind fun q2 => some (q2.1, Wz q2.2)) (dQ t H) := by
    rw [eu_X33_zeros_21]; unfold du_X33_zeros_21
    rw [eu_X33_zeros_22]; unfold du_X33_zeros_22
    exact .bad0 h (by decide) fun _ _ => rfl
  dsimp only
  by_cases c : z.2.2.2.1 = 1
  rotate_left
  · rw [if_neg c, if0 (fun e => c e.1), if_pos rfl]; exact bd
  rw [if_pos c, c_isX h (by decide) (by omega), Option.bind_some]
  by_cases cx : opSr 0 (tO OL (z.2.2.1 + 0))
  rotate_left
  · rw [if0 cx, if_pos rfl, if0 (fun e => cx (by rw [e0]; exact e.2.1 (by decide))), if_pos rfl]; exact bd
  rw [if1 cx, if_neg n10, if1 ⟨c, fun _ => by rw [e0] at cx; exact cx, fun e => absurd e (by decide), fun e => absurd e (by decide)⟩, if_neg n10, eu_X33_zeros_22]; unfold du_X33_zeros_22
  rw [needOk (by decide)]
  dsimp only
  rw [jth_ff, h.2.1.2.1]
  have hs : stO s t A H b lo NL I OL SL k z _ ((m_X37_within t H (z.2.2.1 + 0) 0 4096).bind fun q3 => if q3.2 = 0 then some (q3.1, Wz 0) else u_X37_zeros_40 q3.1 H (jf q3.1 41 H 52)) (dQ t H) := within2 (g := fun u1 d1 => (m_X33_blank u1 A d1).bind fun q2 => jth q2.2.1 (some (q2.1, true, q2.2.2)) (some (q2.1, false, 0))) (f := fun q2 => jth q2.2.1 (some (q2.1, true, q2.2.2)) (if q2.2.2 < 0 then u_X33_zeros_49 q2.1 A q2.2.2 A else if 4096 < q2.2.2 then u_X33_zeros_49 q2.1 A q2.2.2 A else u_X33_zeros_50 q2.1 A q2.2.2 1 A)) (o := 15) h (by decide) (by omega) (.inl cx.1) (fun _ _ => rfl) (fun u1 d1 => by
    dsimp only
    rw [jth_ff, eu_X33_zeros_49, eu_X33_zeros_50]; unfold du_X33_zeros_49
    rw [eu_X33_zeros_50]; unfold du_X33_zeros_50
    rfl) rfl (fun r => by dsimp only; rw [if_pos rfl, Wz_0]) fun u1 w1 d1 a1 b1 b2 ⟨v1, v2, v3, v4, v5⟩ hd hx1 hx2 hpl => by
    dsimp only
    rw [if_neg n10, ← hd]
    have := blank2 a1 hx1 hx2
    rcases this with ⟨q, r, e1, e2, e3⟩ | ⟨u', w', v', e1, e2, e3, e4, e5, e6⟩
    · exact .inl ⟨q, r, by rw [e1, Option.bind_some, e3.th]; rfl, e2, e3⟩
    · refine .inr ⟨u', w', 0, ?_, e2, e3, e4, e5, ?_⟩
      · rw [e1, Option.bind_some]
        dsimp only
        rw [jth_ff]
      · show jf w' 41 H 26 = jf t 41 H 26
        have e6' : jf w' 41 H 26 = jf w1 41 H 26 := e6
        rw [e6', v2 _ _ _ (by omega) (by omega)]
  rw [e0] at hs
  exact hs
end jDirec4
