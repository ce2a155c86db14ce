/-! directives: alignment, the end *-/
set_option maxRecDepth 100000
section jDirecc
variable {s t u w t' s1 t1 : jS} {v A H b lo W k c a hh x y f d n o j e i p pl g' : Int} {NL : List (List Int)} {I : pI} {OL : List pvO} {SL : List pvS} {z : pvS} {zo : pvO} {Q Q' : jS → jS → Int → Prop} {q : jS × Bool × Int} {r : jS}
/-- words that do nothing -/
theorem nop_loop (v0 : 0 ≤ v) (v64 : v ≤ 64) : ∀ (m : Nat) (k' : Int) (s t : jS), AG s t A H b lo NL I OL SL k z → jf t 41 H 34 < 3 → 0 ≤ k' → k' + m = v / 4 →
    (∃ q r, u_X33_align_140 s A v pl (4 + 4 * k') = some q ∧ u_X37_align_118 t H pl v k' = some (r, 0) ∧ aBad s t A H q r) ∨
    (∃ u w, u_X33_align_140 s A v pl (4 + 4 * k') = u_X33_align_159 u A v pl ∧ u_X37_align_118 t H pl v k' = u_X37_align_145 w H pl v ∧ AG u w A H b lo NL I OL SL k z ∧ cFa A s u 0 0 ∧ tF H t w ∧ kpQ A H s t u w)
  | 0, k', s, t, h, h3, k0, hk => by
    refine .inr ⟨s, t, ?_, ?_, h, cFa.rfl, tF.rfl, kpQ.rfl⟩
    · rw [eu_X33_align_140]; unfold du_X33_align_140
      refine jlpW_r ?_
      show b_X33_align_140 s A v pl (4 + 4 * k') = _
      unfold b_X33_align_140
      rw [if_pos (by omega)]
    · rw [eu_X37_align_118]; unfold du_X37_align_118
      refine jlpW_r ?_
      show b_X37_align_118 t H pl v k' = _
      unfold b_X37_align_118
      rw [jdv_in (by decide), Option.bind_some, I_div_n v0 (by omega) (by decide) (by decide), if_neg (by omega)]
  | m + 1, k', s, t, h, h3, k0, hk => by
    have eb : jc4 b_X33_align_140 [A, v, pl, 4 + 4 * k'] s = (m_X33_putNumber s A 19 4).bind fun q1 => jth q1.2.1 (jinr (some (q1.1, true, q1.2.2))) (some (.inl (q1.1, [A, v, pl, 4 + 4 * (k' + 1)]))) := by
      show b_X33_align_140 s A v pl (4 + 4 * k') = _
      unfold b_X33_align_140
      rw [if_neg (by omega), W32_in (by omega) (by omega), show 4 + 4 * k' + 4 = 4 + 4 * (k' + 1) by omega]
    have ey : jc4 b_X37_align_118 [H, pl, v, k'] t = (m_X37_putBytes t H 19 4).bind fun q2 => if q2.2 = 0 then jinr (some (q2.1, Wz 0)) else some (.inl (q2.1, [H, pl, v, k' + 1])) := by
      show b_X37_align_118 t H pl v k' = _
      unfold b_X37_align_118
      rw [jdv_in (by decide), Option.bind_some, I_div_n v0 (by omega) (by decide) (by decide), if_pos (by omega), W32_in (by omega) (by omega)]
    rcases putNum2 (x := 19) (n := 4) h h3 (by omega) (by omega) with ⟨q, r, e1, e2, e3⟩ | ⟨u, w, v', e1, e2, e3, e4, e5, e6⟩
    · left
      refine ⟨q, r, ?_, ?_, e3⟩
      · rw [eu_X33_align_140]; unfold du_X33_align_140
        refine jlpW_r (r := some q) ?_
        rw [eb, e1, Option.bind_some, e3.th]; rfl
      · rw [eu_X37_align_118]; unfold du_X37_align_118
        refine jlpW_r (r := some (r, 0)) ?_
        rw [ey, e2, Option.bind_some, Wz_0]; rfl
    · have s1 : u_X33_align_140 s A v pl (4 + 4 * k') = u_X33_align_140 u A v pl (4 + 4 * (k' + 1)) := by
        rw [eu_X33_align_140]; unfold du_X33_align_140
        refine jlpW_l ?_
        rw [eb, e1, Option.bind_some]
        dsimp only
        rw [jth_ff]
      have s2 : u_X37_align_118 t H pl v k' = u_X37_align_118 w H pl v (k' + 1) := by
        rw [eu_X37_align_118]; unfold du_X37_align_118
        refine jlpW_l ?_
        rw [ey, e2, Option.bind_some]
        dsimp only
        rw [if_neg n10]
      rw [s1, s2]
      rcases nop_loop v0 v64 m (k' + 1) u w e3 (by rw [e6.2.1 _ _ _ (by omega)]; exact h3) (by omega) (by omega) with ⟨q, r, d1, d2, d3⟩ | ⟨u', w', d1, d2, d3, d4, d5, d6⟩
      · exact .inl ⟨q, r, d1, d2, d3.after e4 e5⟩
      · exact .inr ⟨u', w', d1, d2, d3, (e4.trans d4 : cFa A s u' (0 + 0) (0 + 0)), e5.trans d5, e6.kp.trans d6⟩
theorem and2 (h : v = 2 ∨ v = 6 ∨ v = 14 ∨ v = 30 ∨ v = 62 ∨ v = 4 ∨ v = 12 ∨ v = 28 ∨ v = 60) : I_and v 2 = 0 ↔ ¬ v % 4 = 2 := by
  rw [I_and_eq]
  rcases h with rfl | rfl | rfl | rfl | rfl | rfl | rfl | rfl | rfl <;> decide
/-- the fill and its relocation -/
theorem nop2 (h : AG s t A H b lo NL I OL SL k z) (h3 : jf t 41 H 34 < 3) (hv : v = 2 ∨ v = 6 ∨ v = 14 ∨ v = 30 ∨ v = 62 ∨ v = 4 ∨ v = 12 ∨ v = 28 ∨ v = 60) (p0 : 0 ≤ pl ∧ pl ≤ 4096) : stO s t A H b lo NL I OL SL k z (u_X33_align_140 s A v pl 4) (u_X37_align_118 t H pl v 0) (dQ t H) := by
  obtain ⟨m, hm, -⟩ := nat_of (show 0 ≤ v / 4 by omega)
  have L := nop_loop (pl := pl) (v := v) (by omega) (by omega) m 0 s t h h3 (by omega) (by omega)
  rw [show (4 : Int) + 4 * 0 = 4 by omega] at L
  rcases L with ⟨q, r, e1, e2, e3⟩ | ⟨u, w, e1, e2, e3, e4, e5, e6⟩
  · exact .inl ⟨q, r, e1, e2, e3⟩
  rw [e1, e2]
  have fin : ∀ {u' w' : jS}, AG u' w' A H b lo NL I OL SL k z → stO u' w' A H b lo NL I OL SL k z (u_X33_align_171 u' A v pl) (u_X37_align_164 w' H pl v) (dQ w' H) := fun {u' w'} g => by
    rw [eu_X33_align_171, eu_X37_align_164]; unfold du_X33_align_171 du_X37_align_164
    refine (move2 g p0 (by omega) (by unfold rlx; omega) (by omega) (by unfold jin; omega)).bind (fun _ _ => rfl) tw1 fun u2 w2 v2 g2 d1 d2 q => ?_
    dsimp only
    rw [jth_ff, Wz_1]
    exact .ret g2 q.kp.2.1
  have h3' : jf w 41 H 34 < 3 := by rw [e6.2.2.1]; exact h3
  have main : stO u w A H b lo NL I OL SL k z (u_X33_align_159 u A v pl) (u_X37_align_145 w H pl v) (dQ w H) := by
    rw [eu_X33_align_159, eu_X37_align_145]; unfold du_X33_align_159 du_X37_align_145
    rw [jdv_in (by decide), Option.bind_some, I_rem_n (by omega) (by omega) (by decide) (by decide)]
    by_cases c : v % 4 = 2
    · rw [if_neg (fun e => (and2 hv).mp e c), if_pos c]
      refine (putNum2 (x := 1) (n := 2) e3 h3' (by omega) (by omega)).bind (fun _ _ => rfl) (fun r => tw0 r) fun u2 w2 v2 g2 d1 d2 q => ?_
      dsimp only
      rw [jth_ff, if_neg n10]
      refine (fin g2).mono fun a b c hq => ?_
      show jf b 41 H 26 = jf w 41 H 26
      have hq' : jf b 41 H 26 = jf w2 41 H 26 := hq
      rw [hq', q.2.1 _ _ _ (by omega)]
    · rw [if_pos ((and2 hv).mpr c), if_neg c]
      exact fin e3
  rcases main with ⟨q, r, d1, d2, d3⟩ | ⟨u', w', v', d1, d2, d3, d4, d5, d6⟩
  · exact .inl ⟨q, r, d1, d2, d3.after e4 e5⟩
  · refine .inr ⟨u', w', v', d1, d2, d3, (e4.trans d4 : cFa A s u' (0 + 0) (0 + 0)), e5.trans d5, ?_⟩
    have d6' : jf w' 41 H 26 = jf w 41 H 26 := d6
    show jf w' 41 H 26 = jf t 41 H 26
    rw [d6', e6.2.1]
/-- the alignment of the section -/
theorem AG.al (h : AG s t A H b lo NL I OL SL k z) (hc : jf t 41 H 34 = c) (e1 : u = jp s 1000 (A + 8) c n) (e2 : w = jp t 1000 (H + 154) c (2 ^ n.toNat)) (n0 : 0 ≤ n) (n6 : n ≤ 6) : AG u w A H b lo NL I OL SL k z ∧ cFa A s u 0 0 ∧ tF H t w := by
  obtain ⟨f1, p1, -⟩ := jpF e1
  obtain ⟨g1, r1, -⟩ := jpF e2
  obtain ⟨aS, aT, aI, ⟨aB1, aB2, aB3⟩, aM, aSt, aK, aH, a0⟩ := h.1.2.2.2.1
  have cF := cF1 (A := A) e1 (by omega)
  have tf : tF H t w := tF.rfl.wr e2 (by omega)
  have R : AR u w A H b lo NL I OL SL k z := h.1.mk cF tf ⟨aS.cg (fun c a j _ => f1 _ _ _ (by omega)) (fun c a j _ => g1 _ _ _ (by omega)), aT.cg (fun c a j _ => f1 _ _ _ (by omega)) (fun c a j _ => g1 _ _ _ (by omega)) (by rw [g1 _ _ _ (by omega)]; omega), aI.cg fun a j _ => g1 _ _ _ (by omega), ⟨by rw [f1 _ _ _ (by omega), g1 _ _ _ (by omega)]; exact aB1, fun k' k0 k1 => ?_, fun s' k' s0 s1 k0 k1 => by rw [g1 _ _ _ (by omega)] at k1; rw [f1 _ _ _ (by omega), g1 _ _ _ (by omega)]; exact aB3 s' k' s0 s1 k0 k1⟩, aM.cg (fun c a j _ => f1 _ _ _ (by omega)) (fun c a j _ => g1 _ _ _ (by omega)), aSt.cg (fun c a j _ => f1 _ _ _ (by omega)) (fun c a j _ => g1 _ _ _ (by omega)), aK.cg (fun c a j _ => f1 _ _ _ (by omega)) (fun c a j _ => g1 _ _ _ (by omega)), aH.cg (fun c a j _ => f1 _ _ _ (by omega)) (fun c a j _ => g1 _ _ _ (by omega)) (by rw [g1 _ _ _ (by omega)]; omega), by rw [g1 _ _ _ (by omega)]; exact a0⟩
  · exact ⟨h.bk R ⟨f1 _ _ _ (by omega), f1 _ _ _ (by omega)⟩ ⟨g1 _ _ _ (by omega), g1 _ _ _ (by omega)⟩, cF, tf⟩
  · obtain ⟨b1, b2, b3, b4⟩ := aB2 k' k0 k1
    rw [f1 1000 (A + 7) _ (by omega), g1 1000 (H + 153) _ (by omega)]
    by_cases ck : k' = c
    · subst ck
      rw [p1, r1]
      exact ⟨b1, b2, ⟨n0, n6⟩, rfl⟩
    · rw [f1 _ _ _ (by omega), g1 _ _ _ (by omega)]; exact ⟨b1, b2, b3, b4⟩
end jDirecc
