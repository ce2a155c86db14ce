/-! the linker: the loop over a text's taken places, both sides *-/
set_option maxRecDepth 100000
section jTxs
variable {s t u w s' t' q' : jS} {a b g k m n p v l x y0 c j X f i H C P Q P' Q' S Si w0 l0 c0 z0 N M rr : Int} {O : Int → Int → Int → Int → Int} {o : Int → Int → Int → Int} {d d' d2 e z z' z2 y y' : Int → Int → Int}
/-- a step that goes on, with what it keeps -/
def tsQ (C H S : Int) (O : Int → Int → Int → Int → Int) (s t : jS) (e d z : Int → Int → Int) (x a N : Int) (u w : jS) (a' j' : Int) : Prop := ∃ d' z' y', d' 0 1 = d 0 1 + 1 ∧ txI C H S O u w e d' z' y' x a' ∧ nxT (O x) a' (O x 2 2 0) j' ∧ (a < a' ∧ a' ≤ N) ∧ sK d z d' z' ∧ cBW C s u (3 * (d' 0 1 - d 0 1)) (24 * (d' 0 1 - d 0 1)) ∧ tBW H t w ∧ jRb C H s t u w ∧ jBd u (3 * (257 - d' 0 1)) (24 * (257 - d' 0 1))
theorem tkP_n (h : tkP o j) : 0 < kW (o 5 j 2) (o 5 j 4) := by
  obtain ⟨-, h⟩ := h
  unfold kW
  rcases h with ⟨h1, h2⟩ | ⟨h1, -⟩
  · rw [if_pos h1]; exact h2
  · rw [if_neg (by omega), if_neg (by omega), if_neg (by omega), if_neg (by omega)]
    by_cases c : o 5 j 2 = 19
    · rw [if_pos c]; decide
    · rw [if_neg c]; decide
theorem tkn_st (h : txI C H S O s t e d z y x a) (hp : 0 < d 0 0) (x0 : 0 ≤ x) (x1 : x < 6) (hS : sIn S x) (hN : N = O x 1 0 0) (j0 : 0 ≤ j) (j1 : j < O x 2 2 0) (tk : tkP (O x) j) (ha : a = O x 5 j 1) (hs : y0 = if 0 < cn (isH (O x)) (O x 2 0 0) then 1 else 0) (hb : jBd s (3 * (257 - d 0 1)) (24 * (257 - d 0 1))) : (∃ r q, u_X35_textPieces_105 s (C + 4275) (d 0 0 - 1) x (fAt C x + 614) y0 N j (rlA (fAt C x + 614) j) = jinr (some r) ∧ u_X37_textPieces_47 t H x (d 0 0 - 1) (300 * x + j) = jinr (some q) ∧ lkX C H s t (3 * (257 - d 0 1)) (24 * (257 - d 0 1)) r q.1 ∧ q.2 = 0) ∨ ∃ u w a' j', u_X35_textPieces_105 s (C + 4275) (d 0 0 - 1) x (fAt C x + 614) y0 N j (rlA (fAt C x + 614) j) = some (.inl (u, [C + 4275, d 0 0 - 1, x, fAt C x + 614, y0, a', N, j'])) ∧ u_X37_textPieces_47 t H x (d 0 0 - 1) (300 * x + j) = some (.inl (w, [H, x, d 0 0 - 1, a', rNo x j'])) ∧ tsQ C H S O s t e d z x a N u w a' j' := by
  obtain ⟨h1, h2, h3, h4, h5, h6, -, hp1⟩ := id h
  have v1 := h1.1.2.1
  obtain ⟨hO, hu, v, g⟩ := h3.1.2.2.1 x x0 x1 hS
  have n3 := v.2.2.1.2.2.2.2.2
  obtain ⟨-, l1, l2, l3, l4⟩ := rel_lo v g j0 j1
  have kn := tkP_n tk
  have l5 : O x 5 j 1 + kW (O x 5 j 2) (O x 5 j 4) ≤ N := by rw [tk.1] at l4; omega
  have kk : O x 5 j 2 = 43 ∨ O x 5 j 2 = 19 ∨ O x 5 j 2 = 23 ∨ O x 5 j 2 = 26 := by
    rcases tk.2 with q | q
    · exact .inl q.1
    · exact .inr q.1
  have free : ∀ k, 0 ≤ k → k < d 0 1 → ¬ z 2 k = 300 * x + j := fun k k0 k1 hk => by
    obtain ⟨⟨-, q⟩, q2, -⟩ := h5 k k0 k1
    rcases q with ⟨q, -⟩ | ⟨q3, i, qi, q4, -, q5, -⟩
    · omega
    · rcases q2 with q2 | q2 | ⟨q2, q2'⟩
      · omega
      · omega
      · rw [q2] at q4 q5
        have : i = j := by omega
        rw [this] at q5
        omega
  obtain ⟨q1, q, e1, e2, hq⟩ := x_taken h1 h2 h3 x0 x1 hS hp ⟨by have := hb.1; omega, by have := hb.2; omega⟩ j0 j1 tk free hs hp1
  rw [eu_X35_textPieces_105, eu_X37_textPieces_47]; unfold du_X35_textPieces_105 du_X37_textPieces_47
  rw [e1, e2, Option.bind_some, Option.bind_some]
  rcases hq with ⟨b1, b2, b3⟩ | ⟨b1, b2, r, e3, hq⟩
  · rw [b1, if_pos b3]
    exact .inl ⟨_, _, rfl, rfl, ⟨⟨rfl, b2.1.2⟩, (b2.mono (by omega) (by omega)).2⟩, Wz_0⟩
  · rw [b1, jth_ff]
    have hh1 := h3.bw b2 tBW.rfl
    obtain ⟨hO1, -, -, -⟩ := hh1.1.2.2.1 x x0 x1 hS
    have hT1 := (T33 (hh1.1.2.2.2.1 x x0 x1)).2.2.1
    obtain ⟨⟨r0, r1⟩, -, ⟨a0, a1, -⟩, -⟩ := c_rel hO1 hT1 v j0 j1
    rw [c_lengthOf hO1 hT1 v j0 j1 kk, Option.bind_some, a1, e3, Option.bind_some]
    have hpn : pcN O (srT (O x 5 j 2)) (if O x 5 j 2 = 43 then O x 5 j 4 else 0) (O x 5 j 1) (kW (O x 5 j 2) (O x 5 j 4)) (300 * x + j) x := ⟨by omega, .inr ⟨⟨x0, x1⟩, j, ⟨j0, by omega, j1⟩, rfl, tk, rfl, rfl, rfl, fun c => if_pos c⟩⟩
    have st := pc_st (by rw [ha] at h; exact h) hp kn hpn hq hb
    rcases st with ⟨c1, c2⟩ | ⟨c1, c2, d', z', y', c3, c4, c5, c6, c7, c8, c9⟩
    · rw [c1.1.1, if_pos c2]
      exact .inl ⟨_, _, rfl, rfl, ⟨⟨rfl, c1.1.2⟩, c1.2⟩, Wz_0⟩
    · rw [c1, jth_ff, if_neg (by omega)]
      obtain ⟨hO2, hu2, -, -⟩ := c4.2.2.1.1.2.2.1 x x0 x1 hS
      have hT2 := (T33 (c4.2.2.1.1.2.2.2.1 x x0 x1)).2.2.1
      obtain ⟨-, -, ⟨a0', a1', -⟩, -⟩ := c_rel hO2 hT2 v j0 j1
      obtain ⟨-, t1, -⟩ := t_relr hu2 j0 j1
      simp only [jlet]
      rw [c_lengthOf hO2 hT2 v j0 j1 kk, Option.bind_some, a1', jlt_in (by omega) (by omega), Option.bind_some, t1, t_widthOf hu2 v x0 x1 j0 j1 kk, Option.bind_some, W32_in (by omega) (by omega)]
      obtain ⟨j', f1, n1⟩ := c_nextMove (C := C) (a := O x 5 j 1 + kW (O x 5 j 2) (O x 5 j 4)) hO2 hT2 v g c4.2.2.2.1
      obtain ⟨j2, f2, n2⟩ := t_nextTaken (a := O x 5 j 1 + kW (O x 5 j 2) (O x 5 j 4)) hu2 v g x0 x1
      rw [f1, f2, Option.bind_some, Option.bind_some, nxT_one n2 n1]
      exact .inr ⟨_, _, _, j', rfl, rfl, d', z', y', c3, c4, n1, ⟨by omega, l5⟩, c5, c6, c7, c8, c9⟩
theorem txI.at (h : txI C H S O s t e d z y x a) (hn : a ≤ m) (hp : pCi d z (d 0 0 - 1) m) : txI C H S O s t e d z y x m := ⟨h.1, h.2.1, h.2.2.1, h.2.2.2.1, fun k k0 k1 => by
  obtain ⟨q1, q2, q3⟩ := h.2.2.2.2.1 k k0 k1
  exact ⟨q1, by omega, q3⟩, hp, h.2.2.2.2.2.2⟩
/-- the loop -/
theorem tx_loop (x0 : 0 ≤ x) (x1 : x < 6) (hS : sIn S x) (hN : N = O x 1 0 0) (hN' : N ≤ 2048) (hs : y0 = if 0 < cn (isH (O x)) (O x 2 0 0) then 1 else 0) : ∀ (m : Nat) {s t : jS} {d z y : Int → Int → Int} {a j : Int}, txI C H S O s t e d z y x a → 0 < d 0 0 → nxT (O x) a (O x 2 2 0) j → 0 ≤ a → a ≤ N → N - a ≤ m → jBd s (3 * (257 - d 0 1)) (24 * (257 - d 0 1)) → ∃ r q, u_X35_textPieces_47 s (C + 4275) (d 0 0 - 1) x (fAt C x + 614) y0 a N j = some r ∧ u_X37_textPieces_10 t H x (d 0 0 - 1) a (rNo x j) = some q ∧ txQ C H S O s t e d z x N r q := fun m => by
  induction m with
  | zero =>
    intro s t d z y a j h hp hj a0 a1 hm hb
    obtain ⟨hO, hu, v, g⟩ := h.2.2.1.1.2.2.1 x x0 x1 hS
    have j_1 : j = -1 := by
      rcases hj with ⟨q, -⟩ | ⟨⟨j0, j1⟩, tk, q, -⟩
      · exact q
      · obtain ⟨-, l1, l2, l3, l4⟩ := rel_lo v g j0 j1
        have kn := tkP_n tk
        rw [tk.1] at l4; omega
    obtain ⟨r, q, e1, e2, hq⟩ := tx_end h hp x0 x1 a0 a1 hN' hS hN hb
    rw [eu_X35_textPieces_47, eu_X37_textPieces_10]; unfold du_X35_textPieces_47 du_X37_textPieces_10
    rw [jlpW_r (C := jc8 b_X35_textPieces_47) (r := some r) (by
      show b_X35_textPieces_47 s (C + 4275) (d 0 0 - 1) x (fAt C x + 614) y0 a N j = _
      unfold b_X35_textPieces_47; rw [if_pos j_1, e1]), jlpW_r (C := jc5 b_X37_textPieces_10) (r := some q) (by
      show b_X37_textPieces_10 t H x (d 0 0 - 1) a (rNo x j) = _
      unfold b_X37_textPieces_10; rw [if_pos (by unfold rNo; rw [if_pos j_1]), e2])]
    exact ⟨r, q, rfl, rfl, hq⟩
  | succ m ih =>
    intro s t d z y a j h hp hj a0 a1 hm hb
    obtain ⟨hO, hu, v, g⟩ := h.2.2.1.1.2.2.1 x x0 x1 hS
    by_cases j_1 : j = -1
    · obtain ⟨r, q, e1, e2, hq⟩ := tx_end h hp x0 x1 a0 a1 hN' hS hN hb
      rw [eu_X35_textPieces_47, eu_X37_textPieces_10]; unfold du_X35_textPieces_47 du_X37_textPieces_10
      rw [jlpW_r (C := jc8 b_X35_textPieces_47) (r := some r) (by
        show b_X35_textPieces_47 s (C + 4275) (d 0 0 - 1) x (fAt C x + 614) y0 a N j = _
        unfold b_X35_textPieces_47; rw [if_pos j_1, e1]), jlpW_r (C := jc5 b_X37_textPieces_10) (r := some q) (by
        show b_X37_textPieces_10 t H x (d 0 0 - 1) a (rNo x j) = _
        unfold b_X37_textPieces_10; rw [if_pos (by unfold rNo; rw [if_pos j_1]), e2])]
      exact ⟨r, q, rfl, rfl, hq⟩
    · obtain ⟨⟨j0, j1⟩, tk, aj, -⟩ : (0 ≤ j ∧ j < O x 2 2 0) ∧ tkP (O x) j ∧ a ≤ O x 5 j 1 ∧ True := by
        rcases hj with ⟨q, -⟩ | ⟨q1, q2, q3, -⟩
        · exact absurd q j_1
        · exact ⟨q1, q2, q3, trivial⟩
      have hT := (T33 (h.2.2.1.1.2.2.2.1 x x0 x1)).2.2.1
      obtain ⟨⟨r0, r1⟩, -, ⟨b0, b1, -⟩, -⟩ := c_rel hO hT v j0 j1
      obtain ⟨-, t1, -⟩ := t_relr hu j0 j1
      obtain ⟨-, l1, l2, l3, l4⟩ := rel_lo v g j0 j1
      have kn := tkP_n tk
      rw [tk.1] at l4
      have n3 := v.2.2.1.2.2.2.2.2
      have rj : rNo x j = 300 * x + j := if_neg j_1
      have v1 := h.1.1.2.1
      -- the bodies, up to the taken piece
      have hc : b_X35_textPieces_47 s (C + 4275) (d 0 0 - 1) x (fAt C x + 614) y0 a N j = if a < O x 5 j 1 then (m_X36_plain s (C + 4275 + 1) (d 0 0 - 1) (O x 5 j 1 - a)).bind fun q2 => (m_X35_piece q2.1 (C + 4275) q2.2 (d 0 0 - 1) x a (W32 (jf q2.1 22 (rlA (fAt C x + 614) j) 1 - a)) (-1)).bind fun q3 => jth q3.2.1 (jinr (some (q3.1, true, q3.2.2))) (u_X35_textPieces_105 q3.1 (C + 4275) (d 0 0 - 1) x (fAt C x + 614) y0 N j (rlA (fAt C x + 614) j)) else u_X35_textPieces_105 s (C + 4275) (d 0 0 - 1) x (fAt C x + 614) y0 N j (rlA (fAt C x + 614) j) := by
        unfold b_X35_textPieces_47
        rw [if_neg j_1, jix_in j0 (by omega), Option.bind_some]
        show (if a < jf s 22 (rlA (fAt C x + 614) j) 1 then (m_X36_plain s (C + 4275 + 1) (d 0 0 - 1) (W32 (jf s 22 (rlA (fAt C x + 614) j) 1 - a))).bind _ else _) = _
        rw [b1, W32_in (by omega) (by omega)]
        rfl
      have htw : b_X37_textPieces_10 t H x (d 0 0 - 1) a (300 * x + j) = if a < O x 5 j 1 then (m_X37_plainPiece t H (d 0 0 - 1) a (O x 5 j 1 - a)).bind fun q3 => if q3.2 = 0 then jinr (some (q3.1, Wz 0)) else u_X37_textPieces_47 q3.1 H x (d 0 0 - 1) (300 * x + j) else u_X37_textPieces_47 t H x (d 0 0 - 1) (300 * x + j) := by
        unfold b_X37_textPieces_10
        rw [if_neg (by omega), jlt_in (by omega) (by omega), Option.bind_some, t1, Option.bind_some, W32_in (by omega) (by omega)]
      -- a step, then the rest
      have goes : ∀ {s' t' : jS} {d' z' y' : Int → Int → Int}, txI C H S O s' t' e d' z' y' x (O x 5 j 1) → sK d z d' z' → cBW C s s' (3 * (d' 0 1 - d 0 1)) (24 * (d' 0 1 - d 0 1)) → tBW H t t' → jRb C H s t s' t' → jBd s' (3 * (257 - d' 0 1)) (24 * (257 - d' 0 1)) → b_X35_textPieces_47 s (C + 4275) (d 0 0 - 1) x (fAt C x + 614) y0 a N j = u_X35_textPieces_105 s' (C + 4275) (d 0 0 - 1) x (fAt C x + 614) y0 N j (rlA (fAt C x + 614) j) → b_X37_textPieces_10 t H x (d 0 0 - 1) a (300 * x + j) = u_X37_textPieces_47 t' H x (d 0 0 - 1) (300 * x + j) → ∃ r q, jlpW (jc8 b_X35_textPieces_47) [C + 4275, d 0 0 - 1, x, fAt C x + 614, y0, a, N, j] s = some r ∧ jlpW (jc5 b_X37_textPieces_10) [H, x, d 0 0 - 1, a, 300 * x + j] t = some q ∧ txQ C H S O s t e d z x N r q := fun {s' t' d' z' y'} k1 k2 k3 k4 k5 k6 k7 k8 => by
        have ep := k2.1.1
        have st := tkn_st k1 (by omega) x0 x1 hS hN j0 j1 tk rfl hs k6
        rw [ep] at st
        rcases st with ⟨r, q, f1, f2, f3, f4⟩ | ⟨u, w, a', j', f1, f2, d2, z2, y2, f3, f4, f5, ⟨f6, f7⟩, f8, f9, fa, fb, fc⟩
        · rw [jlpW_r (C := jc8 b_X35_textPieces_47) (vs := [C + 4275, d 0 0 - 1, x, fAt C x + 614, y0, a, N, j]) (s := s) (r := some r) (k7.trans f1), jlpW_r (C := jc5 b_X37_textPieces_10) (vs := [H, x, d 0 0 - 1, a, 300 * x + j]) (s := t) (r := some q) (k8.trans f2)]
          exact ⟨r, q, rfl, rfl, .inl ⟨(f3.pre (k3.lf k1.1.2.1.1.2.1) k4.lf).mono (by omega) (by omega), f4⟩⟩
        · rw [jlpW_l (C := jc8 b_X35_textPieces_47) (vs := [C + 4275, d 0 0 - 1, x, fAt C x + 614, y0, a, N, j]) (s := s) (k7.trans f1), jlpW_l (C := jc5 b_X37_textPieces_10) (vs := [H, x, d 0 0 - 1, a, 300 * x + j]) (s := t) (k8.trans f2)]
          obtain ⟨r, q, g1, g2, g3⟩ := ih f4 (by have := f8.1.1; omega) f5 (by omega) f7 (by omega) fc
          rw [eu_X35_textPieces_47] at g1; unfold du_X35_textPieces_47 at g1
          rw [eu_X37_textPieces_10] at g2; unfold du_X37_textPieces_10 at g2
          rw [f8.1.1, ep] at g1 g2
          exact ⟨r, q, g1, g2, (g3.pre f8 f9 fa fb f4.1.2.1.1.2.1).pre k2 k3 k4 k5 k1.1.2.1.1.2.1⟩
      rw [eu_X35_textPieces_47, eu_X37_textPieces_10, rj]; unfold du_X35_textPieces_47 du_X37_textPieces_10
      by_cases ca : a < O x 5 j 1
      · rw [if_pos ca] at hc htw
        obtain ⟨hh, -, -, -⟩ := id h.2.2.1
        obtain ⟨q2, e1, ⟨g1, -⟩, r, q, e2, e3, hq⟩ := x_plain2 (x := x) (a := a) (n := O x 5 j 1 - a) h.1 h.2.1 hp ⟨by have := hb.1; omega, by have := hb.2; omega⟩ hh.1 hh.2.2.2.2.2 (by omega)
        have hh1 := h.2.2.1.bw g1 tBW.rfl
        obtain ⟨hO1, -, -, -⟩ := hh1.1.2.2.1 x x0 x1 hS
        have hT1 := (T33 (hh1.1.2.2.2.1 x x0 x1)).2.2.1
        obtain ⟨-, -, ⟨-, a1', -⟩, -⟩ := c_rel hO1 hT1 v j0 j1
        rw [e1, Option.bind_some, a1', W32_in (by omega) (by omega), e2, Option.bind_some] at hc
        rw [e3, Option.bind_some] at htw
        have hq' : pcQ C H S O s t e d z y 3 24 a (O x 5 j 1 - a) (-1) x 0 (O x 5 j 1 - a) r q := by
          rcases hq with ⟨b1, b2⟩ | ⟨b1, b2, b3, d', y', w0, l0, c0, z0, hd, hyy, hB, hL, ⟨g, g'⟩, gr⟩
          · exact .inl ⟨b1.mono (by omega) (by omega), b2⟩
          · exact .inr ⟨b1, b2, b3, d', y', w0, l0, c0, z0, hd, hyy, hB, hL, ⟨g.mono (by omega) (by omega), g'⟩, gr⟩
        rcases pc_st h hp (by omega) ⟨by omega, .inl ⟨rfl, rfl, rfl⟩⟩ hq' hb with ⟨c1, c2⟩ | ⟨c1, c2, d', z', y', c3, c4, c5, c6, c7, c8, c9⟩
        · rw [c1.1.1] at hc
          rw [if_pos c2] at htw
          have hc2 : b_X35_textPieces_47 s (C + 4275) (d 0 0 - 1) x (fAt C x + 614) y0 a N j = jinr (some (r.1, true, r.2.2)) := hc
          rw [jlpW_r (C := jc8 b_X35_textPieces_47) (vs := [C + 4275, d 0 0 - 1, x, fAt C x + 614, y0, a, N, j]) (s := s) (r := some (r.1, true, r.2.2)) hc2, jlpW_r (C := jc5 b_X37_textPieces_10) (vs := [H, x, d 0 0 - 1, a, 300 * x + j]) (s := t) (r := some (q.1, Wz 0)) htw]
          exact ⟨_, _, rfl, rfl, .inl ⟨⟨⟨rfl, c1.1.2⟩, c1.2⟩, Wz_0⟩⟩
        · rw [c1, jth_ff] at hc
          rw [if_neg (by omega)] at htw
          rw [show a + (O x 5 j 1 - a) = O x 5 j 1 by omega] at c4
          exact goes c4 c5 c6 c7 c8 c9 hc htw
      · rw [if_neg ca] at hc htw
        have : a = O x 5 j 1 := by omega
        exact goes (by rw [this] at h; exact h) sK.rfl (cBW.rfl.mono (by omega) (by omega)) tBW.rfl jRb.rfl hb hc htw
end jTxs
