/-! the assembler: bytes and relocations, both sides *-/
section jAsmd
variable {s t u v w s1 t1 : jS} {A H b lo N k i j o c a n p X Y d e m x y J f g : Int} {NL : List (List Int)} {I : pI} {OL : List pvO} {SL : List pvS} {z : pvS} {q : jS × Bool × Int} {r : jS} {Q Q' : jS → jS → Int → Prop}
theorem szM_2 (k : Int) (h : k < 3) (h0 : 0 ≤ k) : szM k = 2048 := by unfold szM; rw [if_neg (by omega)]
/-- what bytes change -/
def puU (A : Int) (s u : jS) : Prop := ∀ c a j, ¬ (c = 1000 ∧ a = A + 7) → ¬ (c = 1001 ∧ A + 4 ≤ a ∧ a ≤ A + 6) → jf u c a j = jf s c a j
def puV (H : Int) (t v : jS) : Prop := ∀ c a j, ¬ (c = 1000 ∧ (a = H + 152 ∨ a = H + 153)) → jf v c a j = jf t c a j
theorem puU.rfl : puU A s s := fun _ _ _ _ _ => Eq.refl _
theorem puV.rfl : puV H t t := fun _ _ _ _ => Eq.refl _
theorem puU.trans (h : puU A s u) (k : puU A u w) : puU A s w := fun c a j z1 z2 => (k c a j z1 z2).trans (h c a j z1 z2)
theorem puV.trans (h : puV H t u) (k : puV H u w) : puV H t w := fun c a j z1 => (k c a j z1).trans (h c a j z1)
/-- n bytes more in the section at hand -/
def puQ (A H : Int) (s t : jS) (n : Int) (u w : jS) : Prop := puU A s u ∧ puV H t w ∧ jf w 1000 (H + 153) (jf t 41 H 34) = jf t 1000 (H + 153) (jf t 41 H 34) + n
theorem puQ.rfl : puQ A H s t 0 s t := ⟨puU.rfl, puV.rfl, by omega⟩
theorem puQ.trans (h : puQ A H s t m u w) (k : puQ A H u w n s1 t1) : puQ A H s t (m + n) s1 t1 := by
  obtain ⟨h1, h2, h3⟩ := h
  obtain ⟨k1, k2, k3⟩ := k
  rw [h2 _ _ _ (by omega)] at k3
  exact ⟨h1.trans k1, h2.trans k2, by omega⟩
/-- one byte, not in the section without bytes -/
theorem put2 (h : AG s t A H b lo NL I OL SL k z) (h3 : jf t 41 H 34 < 3) : stO s t A H b lo NL I OL SL k z (m_X33_put s A x) (m_X37_putByte t H x) fun u w _ => puQ A H s t 1 u w := by
  obtain ⟨aS, aT, aI, ⟨⟨c1, c2⟩, aB, aC⟩, aM, aSt, aK, aH, a0⟩ := h.1.2.2.2.1
  rw [em_X33_put, em_X37_putByte]; unfold dm_X33_put dm_X37_putByte
  have hB := aB (jf t 41 H 34) c2.1 (by omega)
  have hsz := szM_2 _ h3 c2.1
  have hB1 := hB.1
  rw [hsz] at hB
  rw [c1, jlt_in c2.1 (by omega), Option.bind_some, jlt_in c2.1 (by omega), Option.bind_some, if_neg (show ¬ jf t 41 H 34 = 3 by omega), eu_X37_putByte_26]; unfold du_X37_putByte_26
  rw [hB1]
  by_cases cf : jf t 1000 (H + 153) (jf t 41 H 34) = 2048
  · rw [if_pos cf, if_neg (by omega), eu_X33_put_21]; unfold du_X33_put_21
    exact .bad h (by decide) (fun _ _ => rfl) tw1
  rw [if_neg cf, if_pos (show jf t 1000 (H + 153) (jf t 41 H 34) < 2048 by omega), eu_X33_put_21]; unfold du_X33_put_21
  rw [needOk (by decide)]
  dsimp only
  rw [jth_ff, if_pos h3, c1, jix_in c2.1 h3, Option.bind_some, jlt_in c2.1 (by omega), Option.bind_some, hB1, jst_in (by omega) (by omega), Option.bind_some, jlt_in c2.1 (by omega), Option.bind_some, W32_in (z := 2048 * jf t 41 H 34) (by omega) (by omega), W32_in (by omega) (by omega), jst_in (by omega) (by omega), Option.bind_some, eu_X37_putByte_72]; unfold du_X37_putByte_72
  rw [I_and_255, W8_W8]
  generalize hc : jf t 41 H 34 = c at *
  generalize hn : jf t 1000 (H + 153) c = n at *
  obtain ⟨u1, E1⟩ : ∃ u1, u1 = jp s 1001 (A + 3 + 1 + 1 * c) n (sb (x % 256)) := ⟨_, rfl⟩
  obtain ⟨u2, E2⟩ : ∃ u2, u2 = jp u1 1000 (A + 7) c (n + 1) := ⟨_, rfl⟩
  obtain ⟨w1, G1⟩ : ∃ w1, w1 = jp t 1000 (H + 152) (2048 * c + n) (x % 256) := ⟨_, rfl⟩
  obtain ⟨w2, G2⟩ : ∃ w2, w2 = jp w1 1000 (H + 153) c (n + 1) := ⟨_, rfl⟩
  obtain ⟨f1, p1, -⟩ := jpF E1
  obtain ⟨f2, p2, -⟩ := jpF E2
  obtain ⟨g1, r1, -⟩ := jpF G1
  obtain ⟨g2, r2, -⟩ := jpF G2
  have qu : puU A s u2 := fun c' a j z1 z2 => by rw [f2 _ _ _ (by omega), f1 _ _ _ (by omega)]
  have qv : puV H t w2 := fun c' a j z1 => by rw [g2 _ _ _ (by omega), g1 _ _ _ (by omega)]
  rw [← E1, f1 37 A 30 (by omega), c1, jlt_in c2.1 (by omega), Option.bind_some, f1 1000 (A + 7) c (by omega), hB1, W32_in (by omega) (by omega), jst_in c2.1 (by omega), Option.bind_some, ← E2]
  rw [← G1, g1 41 H 34 (by omega), hc, jlt_in c2.1 (by omega), Option.bind_some, g1 1000 (H + 153) c (by omega), hn, W32_in (by omega) (by omega), jst_in c2.1 (by omega), Option.bind_some, ← G2, Wz_1]
  have R : AR u2 w2 A H b lo NL I OL SL k z := h.1.mk ((cFa.rfl.wr E1 (by omega)).wr E2 (by omega)) ((tF.rfl.wr G1 (by omega)).wr G2 (by omega)) ⟨aS.cg (fun c a j _ => qu _ _ _ (by omega) (by omega)) (fun c a j _ => qv _ _ _ (by omega)), aT.cg (fun c a j _ => qu _ _ _ (by omega) (by omega)) (fun c a j _ => qv _ _ _ (by omega)) (by rw [qv _ _ _ (by omega)]; omega), aI.cg fun a j _ => qv _ _ _ (by omega), ⟨by rw [qu _ _ _ (by omega) (by omega), qv _ _ _ (by omega), c1, hc]; exact ⟨rfl, c2⟩, fun k' k0 k1 => ?_, fun s' k' s0 s1 k0 k1 => ?_⟩, aM.cg (fun c a j _ => qu _ _ _ (by omega) (by omega)) (fun c a j _ => qv _ _ _ (by omega)), aSt.cg (fun c a j _ => qu _ _ _ (by omega) (by omega)) (fun c a j _ => qv _ _ _ (by omega)), aK.cg (fun c a j _ => qu _ _ _ (by omega) (by omega)) (fun c a j _ => qv _ _ _ (by omega)), aH.cg (fun c a j _ => qu _ _ _ (by omega) (by omega)) (fun c a j _ => qv _ _ _ (by omega)) (by rw [qv _ _ _ (by omega)]; omega), by rw [qv _ _ _ (by omega)]; exact a0⟩
  · exact .inr ⟨u2, w2, 0, rfl, rfl, h.bk R ⟨qu _ _ _ (by omega) (by omega), qu _ _ _ (by omega) (by omega)⟩ ⟨qv _ _ _ (by omega), qv _ _ _ (by omega)⟩, (cFa.rfl.wr E1 (by omega)).wr E2 (by omega), (tF.rfl.wr G1 (by omega)).wr G2 (by omega), qu, qv, by rw [hc, r2, hn]⟩
  · have hk := aB k' k0 k1
    rw [qu 1000 (A + 8) _ (by omega) (by omega), qv 1000 (H + 154) _ (by omega)]
    by_cases ck : k' = c
    · subst ck; rw [p2, r2, hsz]; exact ⟨rfl, by omega, hk.2.2⟩
    · rw [f2 _ _ _ (by omega), f1 _ _ _ (by omega), g2 _ _ _ (by omega), g1 _ _ _ (by omega)]; exact hk
  · rw [f2 _ _ _ (by omega), g2 1000 (H + 152) _ (by omega)]
    by_cases ck : s' = c
    · subst ck
      rw [r2] at k1
      by_cases cn : k' = n
      · subst cn; rw [p1, r1]; exact ⟨rfl, by omega, by omega⟩
      · rw [f1 _ _ _ (by omega), g1 1000 (H + 152) _ (by omega)]; exact aC s' k' s0 s1 k0 (by omega)
    · rw [g2 1000 (H + 153) s' (by omega), g1 1000 (H + 153) s' (by omega)] at k1
      have hs := (aB s' s0 (by omega)).2.1.2
      rw [szM_2 _ s1 s0] at hs
      rw [f1 _ _ _ (by omega), g1 1000 (H + 152) _ (by omega)]; exact aC s' k' s0 s1 k0 k1
/-- a number's bytes -/
theorem putN2 : ∀ (m : Nat) (s t : jS) (i : Int), AG s t A H b lo NL I OL SL k z → jf t 41 H 34 < 3 → 0 ≤ i → i + m = n → n ≤ 8 → stO s t A H b lo NL I OL SL k z (u_X33_putNumber_2 s A x n i) (u_X37_putBytes_5 t H x n 1 i) fun u w _ => puQ A H s t m u w
  | 0, s, t, i, h, h3, i0, hi, hn => by
    rw [eu_X33_putNumber_2, eu_X37_putBytes_5]; unfold du_X33_putNumber_2 du_X37_putBytes_5
    have e1 : jlpW (jc4 b_X33_putNumber_2) [A, x, n, i] s = some (s, false, 0) := by
      refine jlpW_r (r := some (s, false, 0)) ?_
      show b_X33_putNumber_2 s A x n i = _
      unfold b_X33_putNumber_2
      rw [if_neg (by omega)]
    have e2 : jlpW (jc5 b_X37_putBytes_5) [H, x, n, 1, i] t = some (t, 1) := by
      refine jlpW_r (r := some (t, 1)) ?_
      show b_X37_putBytes_5 t H x n 1 i = _
      unfold b_X37_putBytes_5
      rw [if_neg (by omega), Wz_1]
    rw [e1, e2]
    exact .ret h puQ.rfl
  | m + 1, s, t, i, h, h3, i0, hi, hn => by
    rcases put2 (x := I_shr x (8 * i)) h h3 with ⟨q, r, e1, e2, e3⟩ | ⟨u, w, v, e1, e2, e3, e4, e5, e6⟩
    · left
      refine ⟨q, r, ?_, ?_, e3⟩
      · rw [eu_X33_putNumber_2]; unfold du_X33_putNumber_2
        refine jlpW_r (r := some q) ?_
        show b_X33_putNumber_2 s A x n i = _
        unfold b_X33_putNumber_2
        rw [if_pos (by omega), W32_in (by omega) (by omega), e1, Option.bind_some, e3.th]; rfl
      · rw [eu_X37_putBytes_5]; unfold du_X37_putBytes_5
        have st1 : jc5 b_X37_putBytes_5 [H, x, n, 1, i] t = some (.inl (r, [H, x, n, 0, i + 1])) := by
          show b_X37_putBytes_5 t H x n 1 i = _
          unfold b_X37_putBytes_5
          rw [if_pos (by omega), if_neg n10, W32_in (z := 8 * i) (by omega) (by omega), e2, Option.bind_some]
          dsimp only
          rw [W32_in (by omega) (by omega)]
        rw [jlpW_l st1]
        refine jlpW_r (r := some (r, 0)) ?_
        show b_X37_putBytes_5 r H x n 0 (i + 1) = _
        unfold b_X37_putBytes_5
        by_cases cl : i + 1 < n
        · rw [if_pos cl, if_pos rfl, Wz_0]
        · rw [if_neg cl, Wz_0]
    · have h3' : jf w 41 H 34 < 3 := by rw [e6.2.1 _ _ _ (by omega)]; exact h3
      have ih := putN2 m u w (i + 1) e3 h3' (by omega) (by omega) hn
      have s1 : u_X33_putNumber_2 s A x n i = u_X33_putNumber_2 u A x n (i + 1) := by
        rw [eu_X33_putNumber_2]; unfold du_X33_putNumber_2
        refine jlpW_l ?_
        show b_X33_putNumber_2 s A x n i = _
        unfold b_X33_putNumber_2
        rw [if_pos (by omega), W32_in (z := 8 * i) (by omega) (by omega), e1, Option.bind_some]
        dsimp only
        rw [jth_ff, W32_in (by omega) (by omega)]
      have s2 : u_X37_putBytes_5 t H x n 1 i = u_X37_putBytes_5 w H x n 1 (i + 1) := by
        rw [eu_X37_putBytes_5]; unfold du_X37_putBytes_5
        refine jlpW_l ?_
        show b_X37_putBytes_5 t H x n 1 i = _
        unfold b_X37_putBytes_5
        rw [if_pos (by omega), if_neg n10, W32_in (z := 8 * i) (by omega) (by omega), e2, Option.bind_some]
        dsimp only
        rw [W32_in (by omega) (by omega)]
      rw [s1, s2]
      rcases ih with ⟨q, r, d1, d2, d3⟩ | ⟨u', w', v', d1, d2, d3, d4, d5, d6⟩
      · exact .inl ⟨q, r, d1, d2, d3.after e4 e5⟩
      · refine .inr ⟨u', w', v', d1, d2, d3, (e4.trans d4 : cFa A s u' (0 + 0) (0 + 0)), e5.trans d5, ?_⟩
        have := e6.trans d6
        rw [show (1 : Int) + (m : Int) = ((m + 1 : Nat) : Int) by omega] at this
        exact this
theorem putNum2 (h : AG s t A H b lo NL I OL SL k z) (h3 : jf t 41 H 34 < 3) (n0 : 0 ≤ n) (n8 : n ≤ 8) : stO s t A H b lo NL I OL SL k z (m_X33_putNumber s A x n) (m_X37_putBytes t H x n) fun u w _ => puQ A H s t n u w := by
  rw [em_X33_putNumber, em_X37_putBytes]; unfold dm_X33_putNumber dm_X37_putBytes
  obtain ⟨m, hm, -⟩ := nat_of n0
  have := putN2 (x := x) (n := n) m s t 0 h h3 (by omega) (by omega) n8
  rw [← hm] at this
  exact this
/-- what relocations change -/
def mvU (A : Int) (s u : jS) : Prop := ∀ c a j, ¬ (c = 37 ∧ a = A ∧ j = 28) → ¬ (c = 1000 ∧ A + 10 ≤ a ∧ a ≤ A + 14) → jf u c a j = jf s c a j
def mvV (H : Int) (t v : jS) : Prop := ∀ c a j, ¬ (c = 41 ∧ a = H ∧ j = 28) → ¬ (c = 1000 ∧ H + 156 ≤ a ∧ a ≤ H + 160) → jf v c a j = jf t c a j
def mvQ (A H : Int) (s t u w : jS) : Prop := mvU A s u ∧ mvV H t w
theorem mvQ.trans (h : mvQ A H s t u w) (k : mvQ A H u w s1 t1) : mvQ A H s t s1 t1 := ⟨fun c a j z1 z2 => (k.1 c a j z1 z2).trans (h.1 c a j z1 z2), fun c a j z1 z2 => (k.2 c a j z1 z2).trans (h.2 c a j z1 z2)⟩
/-- a relocation's kind that relaxes -/
abbrev rlx (o : Int) : Prop := o = 19 ∨ 23 ≤ o ∧ o ≤ 28
theorem mov16 (h : AG s t A H b lo NL I OL SL k z) (R : GT_move) (p0 : 0 ≤ p ∧ p ≤ 4096) (o0 : 0 ≤ o ∧ o ≤ 60) (d0 : -1 ≤ d ∧ d < 100) (hx : jin x) :
    (∃ q r, mR_X33_move R s A o p d x = some q ∧ m_X37_move t H p o d x = some (r, 0) ∧ aBad s t A H q r) ∨
    (∃ u w, mR_X33_move R s A o p d x = (if jf u 37 A 40 = 0 then some (u, false, 0) else if rlx o then u_X33_move_110 R u A p else some (u, false, 0)) ∧ m_X37_move t H p o d x = some (w, 1) ∧ AG u w A H b lo NL I OL SL k z ∧ cFa A s u 0 0 ∧ tF H t w ∧ mvQ A H s t u w) := by
  obtain ⟨aS, aT, aI, aB, ⟨⟨c1, c2⟩, aM⟩, aSt, aK, aH, a0⟩ := h.1.2.2.2.1
  rw [emR_X33_move, em_X37_move]; unfold dmR_X33_move dm_X37_move
  rw [c1]
  by_cases cf : jf t 41 H 28 = 300
  · left
    rw [if_pos cf, if_neg (by omega), eu_X33_move_16]; unfold du_X33_move_16
    obtain ⟨q, r, e1, e2, e3⟩ := need2 (o := 18) h.1 (by decide)
    refine ⟨q, r, ?_, ?_, e3⟩
    · rw [e1, Option.bind_some, e3.th]; rfl
    · rw [e2, Option.bind_some, Wz_0]
  right
  rw [if_neg cf, if_pos (by omega), eu_X33_move_16]; unfold du_X33_move_16
  rw [needOk (by decide)]
  dsimp only
  rw [jth_ff, c1]
  have b30 := aB.1
  rw [b30.1]
  generalize hc : jf t 41 H 34 = c at *
  generalize hn : jf t 41 H 28 = n at *
  obtain ⟨u1, E1⟩ : ∃ u1, u1 = jp s 1000 (A + 10) n c := ⟨_, rfl⟩
  obtain ⟨u2, E2⟩ : ∃ u2, u2 = jp u1 1000 (A + 11) n p := ⟨_, rfl⟩
  obtain ⟨u3, E3⟩ : ∃ u3, u3 = jp u2 1000 (A + 12) n o := ⟨_, rfl⟩
  obtain ⟨u4, E4⟩ : ∃ u4, u4 = jp u3 1000 (A + 13) n d := ⟨_, rfl⟩
  obtain ⟨u5, E5⟩ : ∃ u5, u5 = jp u4 1000 (A + 14) n x := ⟨_, rfl⟩
  obtain ⟨u6, E6⟩ : ∃ u6, u6 = jp u5 37 A 28 (n + 1) := ⟨_, rfl⟩
  obtain ⟨w1, G1⟩ : ∃ w1, w1 = jp t 1000 (H + 156) n c := ⟨_, rfl⟩
  obtain ⟨w2, G2⟩ : ∃ w2, w2 = jp w1 1000 (H + 157) n p := ⟨_, rfl⟩
  obtain ⟨w3, G3⟩ : ∃ w3, w3 = jp w2 1000 (H + 158) n o := ⟨_, rfl⟩
  obtain ⟨w4, G4⟩ : ∃ w4, w4 = jp w3 1000 (H + 159) n d := ⟨_, rfl⟩
  obtain ⟨w5, G5⟩ : ∃ w5, w5 = jp w4 1000 (H + 160) n x := ⟨_, rfl⟩
  obtain ⟨w6, G6⟩ : ∃ w6, w6 = jp w5 41 H 28 (n + 1) := ⟨_, rfl⟩
  obtain ⟨f1, p1, -⟩ := jpF E1
  obtain ⟨f2, p2, -⟩ := jpF E2
  obtain ⟨f3, p3, -⟩ := jpF E3
  obtain ⟨f4, p4, -⟩ := jpF E4
  obtain ⟨f5, p5, -⟩ := jpF E5
  obtain ⟨f6, p6, -⟩ := jpF E6
  obtain ⟨g1, r1, -⟩ := jpF G1
  obtain ⟨g2, r2, -⟩ := jpF G2
  obtain ⟨g3, r3, -⟩ := jpF G3
  obtain ⟨g4, r4, -⟩ := jpF G4
  obtain ⟨g5, r5, -⟩ := jpF G5
  obtain ⟨g6, r6, -⟩ := jpF G6
  have cF : cFa A s u6 0 0 := ((((((cFa.rfl (A := A)).wr E1 (by omega)).wr E2 (by omega)).wr E3 (by omega)).wr E4 (by omega)).wr E5 (by omega)).wr E6 (by omega)
  have tFv : tF H t w6 := ((((((tF.rfl (H := H)).wr G1 (by omega)).wr G2 (by omega)).wr G3 (by omega)).wr G4 (by omega)).wr G5 (by omega)).wr G6 (by omega)
  have qu : mvU A s u6 := fun c' a j z1 z2 => by rw [f6 _ _ _ (by omega), f5 _ _ _ (by omega), f4 _ _ _ (by omega), f3 _ _ _ (by omega), f2 _ _ _ (by omega), f1 _ _ _ (by omega)]
  have qv : mvV H t w6 := fun c' a j z1 z2 => by rw [g6 _ _ _ (by omega), g5 _ _ _ (by omega), g4 _ _ _ (by omega), g3 _ _ _ (by omega), g2 _ _ _ (by omega), g1 _ _ _ (by omega)]
  have R : AR u6 w6 A H b lo NL I OL SL k z := h.1.mk cF tFv ⟨aS.cg (fun c a j _ => qu _ _ _ (by omega) (by omega)) (fun c a j _ => qv _ _ _ (by omega) (by omega)), aT.cg (fun c a j _ => qu _ _ _ (by omega) (by omega)) (fun c a j _ => qv _ _ _ (by omega) (by omega)) (by rw [qv _ _ _ (by omega) (by omega)]; omega), aI.cg fun a j _ => qv _ _ _ (by omega) (by omega), aB.cg (fun c a j _ => qu _ _ _ (by omega) (by omega)) (fun c a j _ => qv _ _ _ (by omega) (by omega)), ⟨by rw [p6, r6]; exact ⟨rfl, by omega, by omega⟩, fun i i0 i1 => ?_⟩, aSt.cg (fun c a j _ => qu _ _ _ (by omega) (by omega)) (fun c a j _ => qv _ _ _ (by omega) (by omega)), aK.cg (fun c a j _ => qu _ _ _ (by omega) (by omega)) (fun c a j _ => qv _ _ _ (by omega) (by omega)), aH.cg (fun c a j _ => qu _ _ _ (by omega) (by omega)) (fun c a j _ => qv _ _ _ (by omega) (by omega)) (by rw [qv _ _ _ (by omega) (by omega)]; omega), by rw [qv _ _ _ (by omega) (by omega)]; exact a0⟩
  · refine ⟨u6, w6, ?_, ?_, h.bk R ⟨qu _ _ _ (by omega) (by omega), qu _ _ _ (by omega) (by omega)⟩ ⟨qv _ _ _ (by omega) (by omega), qv _ _ _ (by omega) (by omega)⟩, cF, tFv, qu, qv⟩
    · have n0 : jf u5 37 A 28 = n := by rw [f5 _ _ _ (by omega), f4 _ _ _ (by omega), f3 _ _ _ (by omega), f2 _ _ _ (by omega), f1 _ _ _ (by omega)]; exact c1
      rw [jst_in c2.1 (by omega), Option.bind_some, ← E1, f1 37 A 28 (by omega), c1, jst_in c2.1 (by omega), Option.bind_some, ← E2, f2 37 A 28 (by omega), f1 37 A 28 (by omega), c1, jst_in c2.1 (by omega), Option.bind_some, ← E3, f3 37 A 28 (by omega), f2 37 A 28 (by omega), f1 37 A 28 (by omega), c1, jst_in c2.1 (by omega), Option.bind_some, ← E4, f4 37 A 28 (by omega), f3 37 A 28 (by omega), f2 37 A 28 (by omega), f1 37 A 28 (by omega), c1, jst_in c2.1 (by omega), Option.bind_some, ← E5]
      simp only [jls]
      rw [n0, W32_in (by omega) (by omega), ← E6]
      by_cases c40 : jf u6 37 A 40 = 0
      · rw [if_pos c40, if_pos c40]
      · rw [if_neg c40, if_neg c40]
        by_cases o19 : o = 19
        · rw [if_pos o19, if_pos (show rlx o from .inl o19)]
        · rw [if_neg o19]
          by_cases o23 : o < 23
          · rw [if_pos o23, if_neg (show ¬ rlx o by unfold rlx; omega)]
          · rw [if_neg o23]
            by_cases o28 : 28 < o
            · rw [if_pos o28, if_neg (show ¬ rlx o by unfold rlx; omega)]
            · rw [if_neg o28, if_pos (show rlx o by unfold rlx; omega)]
    · have n0 : jf w5 41 H 28 = n := by rw [g5 _ _ _ (by omega), g4 _ _ _ (by omega), g3 _ _ _ (by omega), g2 _ _ _ (by omega), g1 _ _ _ (by omega)]; exact hn
      rw [jst_in c2.1 (by omega), Option.bind_some, ← G1, g1 41 H 28 (by omega), hn, jst_in c2.1 (by omega), Option.bind_some, ← G2, g2 41 H 28 (by omega), g1 41 H 28 (by omega), hn, jst_in c2.1 (by omega), Option.bind_some, ← G3, g3 41 H 28 (by omega), g2 41 H 28 (by omega), g1 41 H 28 (by omega), hn, jst_in c2.1 (by omega), Option.bind_some, ← G4, g4 41 H 28 (by omega), g3 41 H 28 (by omega), g2 41 H 28 (by omega), g1 41 H 28 (by omega), hn, jst_in c2.1 (by omega), Option.bind_some, ← G5]
      simp only [jls]
      rw [n0, W32_in (by omega) (by omega), ← G6, Wz_1]
  · rw [r6] at i1
    by_cases ci : i = n
    · subst ci
      have a10 : jf u6 1000 (A + 10) i = c := by rw [f6 _ _ _ (by omega), f5 _ _ _ (by omega), f4 _ _ _ (by omega), f3 _ _ _ (by omega), f2 _ _ _ (by omega)]; exact p1
      have a11 : jf u6 1000 (A + 11) i = p := by rw [f6 _ _ _ (by omega), f5 _ _ _ (by omega), f4 _ _ _ (by omega), f3 _ _ _ (by omega)]; exact p2
      have a12 : jf u6 1000 (A + 12) i = o := by rw [f6 _ _ _ (by omega), f5 _ _ _ (by omega), f4 _ _ _ (by omega)]; exact p3
      have a13 : jf u6 1000 (A + 13) i = d := by rw [f6 _ _ _ (by omega), f5 _ _ _ (by omega)]; exact p4
      have a14 : jf u6 1000 (A + 14) i = x := by rw [f6 _ _ _ (by omega)]; exact p5
      have b10 : jf w6 1000 (H + 156) i = c := by rw [g6 _ _ _ (by omega), g5 _ _ _ (by omega), g4 _ _ _ (by omega), g3 _ _ _ (by omega), g2 _ _ _ (by omega)]; exact r1
      have b11 : jf w6 1000 (H + 157) i = p := by rw [g6 _ _ _ (by omega), g5 _ _ _ (by omega), g4 _ _ _ (by omega), g3 _ _ _ (by omega)]; exact r2
      have b12 : jf w6 1000 (H + 158) i = o := by rw [g6 _ _ _ (by omega), g5 _ _ _ (by omega), g4 _ _ _ (by omega)]; exact r3
      have b13 : jf w6 1000 (H + 159) i = d := by rw [g6 _ _ _ (by omega), g5 _ _ _ (by omega)]; exact r4
      have b14 : jf w6 1000 (H + 160) i = x := by rw [g6 _ _ _ (by omega)]; exact r5
      rw [a10, a11, a12, a13, a14, b10, b11, b12, b13, b14]
      exact ⟨rfl, rfl, rfl, rfl, rfl, b30.2, p0, o0, d0, hx⟩
    · have e1 : ∀ a, A + 10 ≤ a → a ≤ A + 14 → jf u6 1000 a i = jf s 1000 a i := fun a a0 a1 => by rw [f6 _ _ _ (by omega), f5 _ _ _ (by omega), f4 _ _ _ (by omega), f3 _ _ _ (by omega), f2 _ _ _ (by omega), f1 _ _ _ (by omega)]
      have e2 : ∀ a, H + 156 ≤ a → a ≤ H + 160 → jf w6 1000 a i = jf t 1000 a i := fun a a0 a1 => by rw [g6 _ _ _ (by omega), g5 _ _ _ (by omega), g4 _ _ _ (by omega), g3 _ _ _ (by omega), g2 _ _ _ (by omega), g1 _ _ _ (by omega)]
      rw [e1 _ (by omega) (by omega), e1 _ (by omega) (by omega), e1 _ (by omega) (by omega), e1 _ (by omega) (by omega), e1 _ (by omega) (by omega), e2 _ (by omega) (by omega), e2 _ (by omega) (by omega), e2 _ (by omega) (by omega), e2 _ (by omega) (by omega), e2 _ (by omega) (by omega)]
      exact aM i i0 (by omega)
theorem move1 {m : Nat} (h : AG s t A H b lo NL I OL SL k z) (p0 : 0 ≤ p ∧ p ≤ 4096) (o0 : 0 ≤ o ∧ o ≤ 60) (hr : ¬ rlx o) (d0 : -1 ≤ d ∧ d < 100) (hx : jin x) : stO s t A H b lo NL I OL SL k z (gr_move (m + 1) s A o p d x) (m_X37_move t H p o d x) fun u w _ => mvQ A H s t u w := by
  show stO s t A H b lo NL I OL SL k z (mR_X33_move (gr_move m) s A o p d x) _ _
  rcases mov16 h (gr_move m) p0 o0 d0 hx with h' | ⟨u, w, e1, e2, e3, e4, e5, e6⟩
  · exact .inl h'
  · refine .inr ⟨u, w, 0, ?_, e2, e3, e4, e5, e6⟩
    rw [e1, if_neg hr]
    by_cases c : jf u 37 A 40 = 0
    · rw [if_pos c]
    · rw [if_neg c]
theorem move2 (h : AG s t A H b lo NL I OL SL k z) (p0 : 0 ≤ p ∧ p ≤ 4096) (o0 : 0 ≤ o ∧ o ≤ 60) (hr : ¬ rlx o) (d0 : -1 ≤ d ∧ d < 100) (hx : jin x) : stO s t A H b lo NL I OL SL k z (m_X33_move s A o p d x) (m_X37_move t H p o d x) fun u w _ => mvQ A H s t u w := by
  rw [em_X33_move]; exact move1 h p0 o0 hr d0 hx
/-- the relocation of a word -/
theorem wmove2 (h : AG s t A H b lo NL I OL SL k z) (p0 : 0 ≤ p ∧ p ≤ 4096) (o0 : 0 ≤ o ∧ o ≤ 60) (d0 : -1 ≤ d ∧ d < 100) (hx : jin x) : stO s t A H b lo NL I OL SL k z (m_X33_move s A o p d x) (m_X37_wordMove t H p o d x) fun u w _ => mvQ A H s t u w := by
  rw [em_X33_move, em_X37_wordMove]; unfold dm_X37_wordMove
  show stO s t A H b lo NL I OL SL k z (mR_X33_move (gr_move 3) s A o p d x) _ _
  have ew : ∀ y0, u_X37_wordMove_23 t H p o d x y0 = (m_X37_move t H p o d x).bind fun q1 => if q1.2 = 0 then some (q1.1, Wz 0) else if y0 = 0 then some (q1.1, Wz 1) else if (jf q1.1 41 H 36) = 0 then some (q1.1, Wz 1) else (m_X37_move q1.1 H p 51 (-1) 0).bind fun q2 => if q2.2 = 0 then some (q2.1, Wz 0) else some (q2.1, Wz 1) := fun y0 => by rw [eu_X37_wordMove_23]; rfl
  have ee : (if o = 19 then u_X37_wordMove_18 t H p o d x else if o < 23 then u_X37_wordMove_22 t H p o d x else if 28 < o then u_X37_wordMove_22 t H p o d x else u_X37_wordMove_18 t H p o d x) = u_X37_wordMove_23 t H p o d x (if rlx o then 1 else 0) := by
    rw [eu_X37_wordMove_18, eu_X37_wordMove_22]; unfold du_X37_wordMove_18 du_X37_wordMove_22
    by_cases o19 : o = 19
    · rw [if_pos o19, if_pos (show rlx o from .inl o19)]
    · rw [if_neg o19]
      by_cases o23 : o < 23
      · rw [if_pos o23, if_neg (show ¬ rlx o by unfold rlx; omega)]
      · rw [if_neg o23]
        by_cases o28 : 28 < o
        · rw [if_pos o28, if_neg (show ¬ rlx o by unfold rlx; omega)]
        · rw [if_neg o28, if_pos (show rlx o by unfold rlx; omega)]
  rw [ee, ew]
  rcases mov16 h (gr_move 3) p0 o0 d0 hx with ⟨q, r, e1, e2, e3⟩ | ⟨u, w, e1, e2, e3, e4, e5, e6⟩
  · exact .inl ⟨q, r, e1, by rw [e2, Option.bind_some]; exact tw0 r, e3⟩
  rw [e1, e2, Option.bind_some]
  dsimp only
  rw [if_neg n10, Wz_1]
  have a40 := e3.1.2.2.2.1.2.2.2.2.2.2.1.2.2.2.1
  by_cases cr : rlx o
  rotate_left
  · rw [if_neg cr, if_pos (show (if rlx o then (1 : Int) else 0) = 0 by rw [if_neg cr])]
    refine .inr ⟨u, w, 0, ?_, rfl, e3, e4, e5, e6⟩
    by_cases c : jf u 37 A 40 = 0
    · rw [if_pos c]
    · rw [if_neg c]
  rw [if_pos cr, if_neg (show ¬ (if rlx o then (1 : Int) else 0) = 0 by rw [if_pos cr]; decide), a40]
  by_cases c : jf w 41 H 36 = 0
  · rw [if_pos c, if_pos c]
    exact .inr ⟨u, w, 0, rfl, rfl, e3, e4, e5, e6⟩
  rw [if_neg c, if_neg c, eu_X33_move_110]; unfold du_X33_move_110
  have hm := (move1 (m := 2) (o := 51) (p := p) (d := -1) (x := 0) e3 p0 (by omega) (by unfold rlx; omega) (by omega) (by unfold jin; omega)).bind (f := fun q1 => jth q1.2.1 (some (q1.1, true, q1.2.2)) (some (q1.1, false, 0))) (g := fun q2 => if q2.2 = 0 then some (q2.1, Wz 0) else some (q2.1, 1)) (Q' := fun u' w' _ => mvQ A H s t u' w') (fun _ _ => rfl) (fun r => tw0 (f := some (r, 1)) r) fun u' w' v' g' d1 d2 d3 => by
    dsimp only
    rw [jth_ff, if_neg n10]
    exact .ret g' (e6.trans d3)
  rcases hm with ⟨q, r, d1, d2, d3⟩ | ⟨u', w', v', d1, d2, d3, d4, d5, d6⟩
  · exact .inl ⟨q, r, d1, d2, d3.after e4 e5⟩
  · exact .inr ⟨u', w', v', d1, d2, d3, (e4.trans d4 : cFa A s u' (0 + 0) (0 + 0)), e5.trans d5, d6⟩
end jAsmd
