/-! the linker: relocations by kind: values, sums, branches, both sides *-/
set_option maxRecDepth 100000
section jLki
variable {s t u w' s' t' s3 t1 : jS} {a b k m n nn o p q v l x c f g i j A H C K S X P Q V rr n' sec w r how val q0 kd : Int} {O : Int → Int → Int → Int → Int} {d e z y : Int → Int → Int} {G B : Int → Int}
/-- the state in which a relocation is done; its piece K, its place, what it is worth -/
def rmS (C H S : Int) (O : Int → Int → Int → Int → Int) (s t : jS) (e d z : Int → Int → Int) (G : Int → Int) (x j sec A K P : Int) : Prop := rlS C H S O s t e d z G ∧ atR C H s t x j sec A ∧ (jf s 39 (C + 4275) 37 = K ∧ jf s 39 (C + 4275) 41 = P) ∧ jf t 41 H 114 = K ∧ jf t 41 H 116 = P
theorem rmS.rs (h : rmS C H S O s t e d z G x j sec A K P) (g : cRS C s u) (F : ∀ k, 37 ≤ k → k ≤ 41 → ¬ k = 39 → ¬ k = 40 → jf u 39 (C + 4275) k = jf s 39 (C + 4275) k) (g' : tW6 H t w') : rmS C H S O u w' e d z G x j sec A K P := by
  obtain ⟨h1, ⟨⟨h2, h3, h4⟩, h5, h6⟩, ⟨h7, h8⟩, h9, ha⟩ := h
  have T : ∀ k, jf w' 41 H k = jf t 41 H k := fun k => g'.2 _ _ _ (by omega)
  exact ⟨h1.rw g.rw g'.rw, ⟨⟨by rw [g.2 _ _ _ (by omega)]; exact h2, by rw [g.2 _ _ _ (by omega)]; exact h3, by rw [F 38 (by decide) (by decide) (by decide) (by decide)]; exact h4⟩, by rw [T]; exact h5, by rw [T]; exact h6⟩, ⟨by rw [F 37 (by decide) (by decide) (by decide) (by decide)]; exact h7, by rw [F 41 (by decide) (by decide) (by decide) (by decide)]; exact h8⟩, by rw [T]; exact h9, by rw [T]; exact ha⟩
theorem rl_tgt (vo : vOb (O x)) (g : gOb (O x)) (x0 : 0 ≤ x) (x1 : x < 6) (hS : sIn S x) (j0 : 0 ≤ j) (j1 : j < O x 2 2 0) (h51 : ¬ O x 5 j 2 = 51) (h43 : ¬ O x 5 j 2 = 43) : (0 ≤ O x 5 j 3 ∧ O x 5 j 3 < 100) ∧ vsy S O (100 * x + O x 5 j 3) ∧ jin (O x 5 j 4) := by
  obtain ⟨w0, w1, w2, w3, w4, w5, w6, w7, w8⟩ := vo.2.2.2.2.2 j j0 j1
  have g3 := (g.2.2 j j0 j1).2.1
  have n1 := vo.2.2.1.2.2.2.1
  have : ¬ O x 5 j 3 = -1 := fun q => by have := g3.mp q; omega
  have e1 : (100 * x + O x 5 j 3) / 100 = x := by omega
  have e2 : (100 * x + O x 5 j 3) % 100 = O x 5 j 3 := by omega
  exact ⟨by omega, ⟨by omega, by rw [e1]; exact hS, by rw [e1, e2]; exact w6⟩, w7⟩
/-- its value, both sides -/
theorem x_relV (h : rmS C H S O s t e d z G x j sec A K P) (x0 : 0 ≤ x) (x1 : x < 6) (hS : sIn S x) (j0 : 0 ≤ j) (j1 : j < O x 2 2 0) (h51 : ¬ O x 5 j 2 = 51) (h43 : ¬ O x 5 j 2 = 43) : ∃ val u, jin val ∧ (∀ k a, lT S O e d z G (kyO O e (100 * x + O x 5 j 3)) k a → val = lbP d k a) ∧ cRS C s u ∧ (∀ o p, cBy u C o p = cBy s C o p) ∧ rmS C H S O u t e d z G x j sec A K P ∧ (jf u 39 (C + 4275) 39 = O x 5 j 4 ∧ jf u 39 (C + 4275) 40 = val + O x 5 j 4) ∧ relT s (C + 4275) (rlA (fAt C x + 614) j) m sec = relK u (C + 4275) (rlA (fAt C x + 614) j) sec (O x 5 j 2) ∧ ∀ q0, u_X37_relocate_128 t H (300 * x + j) (O x 5 j 2) q0 = if O x 5 j 2 = 1 then (m_X37_store t H (4096 * sec + A) 4 (val + O x 5 j 4)).bind fun q5 => u_X37_relocate_173 q5.1 H (300 * x + j) (O x 5 j 2) q0 (val + O x 5 j 4) else u_X37_relocate_173 t H (300 * x + j) (O x 5 j 2) q0 (val + O x 5 j 4) := by
  obtain ⟨h1, ⟨⟨h2, h3, h4⟩, h5, h6⟩, ⟨h7, h8⟩, h9, ha⟩ := id h
  obtain ⟨⟨r0, r1⟩, ⟨l0, l1, l2, l3, l4⟩, hut, vo, g, j3⟩ := h1.rl x0 x1 hS j0 j1
  obtain ⟨tg, hX, ad⟩ := rl_tgt vo g x0 x1 hS j0 j1 h51 h43
  obtain ⟨b, hb⟩ : ∃ b, b = rlA (fAt C x + 614) j := ⟨_, rfl⟩
  rw [← hb] at r0 r1 l0 l1 l2 l3 l4 ⊢
  obtain ⟨u1, E1⟩ : ∃ u1, u1 = jp s 39 (C + 4275) 39 (O x 5 j 4) := ⟨_, rfl⟩
  obtain ⟨f1, p1, -⟩ := jpF E1
  have R1 : cRS C s u1 := cRS.rfl.wr E1 (by omega)
  have m1 := h.rs R1 (fun k k0 k1 k2 k3 => f1 _ _ _ (by omega)) tW6.rfl
  obtain ⟨⟨s0, s1⟩, ⟨q0', q1', q2', q3', q4'⟩, -⟩ := m1.1.rl x0 x1 hS j0 j1
  rw [← hb] at s0 s1 q0' q1' q2' q3' q4'
  obtain ⟨val, e1, e2, vj, vl⟩ := x_value m1.1.1 hX
  rw [show (100 * x + O x 5 j 3) / 100 = x by omega, show (100 * x + O x 5 j 3) % 100 = O x 5 j 3 by omega] at e1
  obtain ⟨u2, E2⟩ : ∃ u2, u2 = jp u1 39 (C + 4275) 40 (val + O x 5 j 4) := ⟨_, rfl⟩
  obtain ⟨f2, p2, -⟩ := jpF E2
  have R2 : cRS C s u2 := R1.wr E2 (by omega)
  have F2 : ∀ k, 37 ≤ k → k ≤ 41 → ¬ k = 39 → ¬ k = 40 → jf u2 39 (C + 4275) k = jf s 39 (C + 4275) k := fun k k0 k1 k2 k3 => by rw [f2 _ _ _ (by omega), f1 _ _ _ (by omega)]
  have m2 := h.rs R2 F2 tW6.rfl
  obtain ⟨⟨w0, w1⟩, ⟨-, -, y2, -, -⟩, -⟩ := m2.1.rl x0 x1 hS j0 j1
  rw [← hb] at w0 w1 y2
  have v0 := vj.1
  have v1 := vj.2
  have a0 := ad.1
  have a1 := ad.2
  obtain ⟨-, -, -, t3, t4⟩ := t_relr hut j0 j1
  refine ⟨val, u2, vj, vl, R2, fun o p => ?_, m2, ⟨by rw [f2 _ _ _ (by omega)]; exact p1, p2⟩, ?_, fun q0 => ?_⟩
  · show jf u2 1001 _ _ = _
    rw [f2 _ _ _ (by omega), f1 _ _ _ (by omega)]
  · unfold relT
    rw [jrd_in r0 r1, Option.bind_some, l2, if_neg h43, jrd_in r0 r1, Option.bind_some, l4]
    simp only [jls]
    rw [← E1, jrd_in s0 s1, Option.bind_some, q3', m1.2.1.1.1, e1, Option.bind_some]
    dsimp only
    rw [jrd_in s0 s1, Option.bind_some, q4', W64_in (by omega) (by omega), ← E2, jrd_in w0 w1, Option.bind_some, y2]
  · rw [eu_X37_relocate_128]; unfold du_X37_relocate_128
    have J187 : jlt t 1000 (H + 187) 1800 (300 * x + j) = some (O x 5 j 3) := by rw [jlt_in (by omega) (by omega), t3]
    have J188 : jlt t 1000 (H + 188) 1800 (300 * x + j) = some (O x 5 j 4) := by rw [jlt_in (by omega) (by omega), t4]
    rw [J187, J188, Option.bind_some, h5, W32_in (z := 100 * x) (by omega) (by omega), W32_in (by omega) (by omega), e2, Option.bind_some, Option.bind_some]
    simp only [jlet]
    rw [W64_in (by omega) (by omega), h6]
/-- bytes of sums -/
theorem by_cg (i0 : 0 ≤ i) (i4 : i < 4) (h : p % 4294967296 = q % 4294967296) : byV p i = byV q i := by
  unfold byV
  have : i = 0 ∨ i = 1 ∨ i = 2 ∨ i = 3 := by omega
  have e0 : (2 : Int) ^ (8 * (0 : Int)).toNat = 1 := by decide
  have e1 : (2 : Int) ^ (8 * (1 : Int)).toNat = 256 := by decide
  have e2 : (2 : Int) ^ (8 * (2 : Int)).toNat = 65536 := by decide
  have e3 : (2 : Int) ^ (8 * (3 : Int)).toNat = 16777216 := by decide
  rcases this with rfl | rfl | rfl | rfl
  · rw [e0]; omega
  · rw [e1]; omega
  · rw [e2]; omega
  · rw [e3]; omega
theorem kWs (hk : kd = 1 ∨ kd = 33 ∨ kd = 34 ∨ kd = 35 ∨ kd = 37 ∨ kd = 38 ∨ kd = 39) : (kW kd a = if kd = 33 ∨ kd = 37 then 1 else if kd = 34 ∨ kd = 38 then 2 else 4) ∧ (kW kd a = 1 ∨ kW kd a = 2 ∨ kW kd a = 4) := by
  rcases hk with rfl | rfl | rfl | rfl | rfl | rfl | rfl <;> simp [kW]
theorem x_sum (h : rmS C H S O s t e d z G x j sec A (-1) P) (x0 : 0 ≤ x) (x1 : x < 6) (hS : sIn S x) (j0 : 0 ≤ j) (j1 : j < O x 2 2 0) (hs : 0 ≤ sec ∧ sec < 3) (hk : O x 5 j 2 = 1 ∨ O x 5 j 2 = 33 ∨ O x 5 j 2 = 34 ∨ O x 5 j 2 = 35 ∨ O x 5 j 2 = 37 ∨ O x 5 j 2 = 38 ∨ O x 5 j 2 = 39) (b0 : 0 ≤ A) (b1 : A + kW (O x 5 j 2) (O x 5 j 4) ≤ 4096) (hB : ∀ k, 0 ≤ k → k < kW (O x 5 j 2) (O x 5 j 4) → (0 ≤ tBy t H sec (A + k) ∧ tBy t H sec (A + k) < 256) ∧ cBy s C sec (A + k) = sb (tBy t H sec (A + k))) : ∃ r q, relT s (C + 4275) (rlA (fAt C x + 614) j) m sec = some r ∧ u_X37_relocate_128 t H (300 * x + j) (O x 5 j 2) q0 = some q ∧ rwE C H s t sec A (kW (O x 5 j 2) (O x 5 j 4)) r q := by
  obtain ⟨val, u, vj, -, R, By, hm, ⟨c39, c40⟩, ec, et⟩ := x_relV (m := m) h x0 x1 hS j0 j1 (by omega) (by omega)
  obtain ⟨⟨r0, r1⟩, ⟨l0, l1, l2, l3, l4⟩, hut, vo, g, j3⟩ := hm.1.rl x0 x1 hS j0 j1
  obtain ⟨-, -, ad⟩ := rl_tgt (S := S) vo g x0 x1 hS j0 j1 (by omega) (by omega)
  have v0 := vj.1
  have v1 := vj.2
  have a0 := ad.1
  have a1 := ad.2
  obtain ⟨b, hb⟩ : ∃ b, b = rlA (fAt C x + 614) j := ⟨_, rfl⟩
  obtain ⟨V, hV⟩ : ∃ V, V = val + O x 5 j 4 := ⟨_, rfl⟩
  rw [← hb] at r0 r1 l2 ec
  rw [← hV] at c40 et
  rw [← hb]
  obtain ⟨o0, oK, oN⟩ := hm.1.2.2.2 sec hs.1 hs.2
  have eC : C + 4275 + 33 + 1 + 1 * sec = C + 4275 + 34 + sec := by omega
  have c38 := hm.2.1.1.2.2
  -- from the sum on
  have rk : ∀ (Y : Option (jS × Bool × Int)), (m_X35_sumUp u (C + 4275) (C + 4275 + 34 + sec) (O x 5 j 2)).bind (fun q3 => some (q3.1, false, 0)) = Y → relK u (C + 4275) b sec (O x 5 j 2) = Y := fun Y hY => by
    have e471 : u_X35_relocate_471 u (C + 4275) b sec = Y := by
      rw [eu_X35_relocate_471]; unfold du_X35_relocate_471
      rw [jix_in hs.1 hs.2, Option.bind_some, eC, jrd_in r0 r1, Option.bind_some, l2]; exact hY
    unfold relK
    generalize hkk : O x 5 j 2 = kd at *
    clear l2 et ec hB b1
    rcases hk with rfl | rfl | rfl | rfl | rfl | rfl | rfl <;> (simp only [eq_self, and_false, false_and, and_true, true_and, if_true, if_false, reduceIte, Int.reduceEq, Int.reduceLT, Int.reduceLE, Int.reduceNeg, not_false_eq_true, Option.bind_some, jls]; exact e471)
  -- the two sums
  have fin : ∀ (p q : Int), jlg p → jlg q → (∀ i, 0 ≤ i → i < kW (O x 5 j 2) (O x 5 j 4) → byV p i = byV q i) → ∀ (Z : jS → Option (jS × Int)), (∀ w', Z w' = some (w', 1)) → ∃ r q', ((m_X35_put u (C + 4275) (C + 4275 + 34 + sec) A (kW (O x 5 j 2) (O x 5 j 4)) p).bind fun q1 => some (q1.1, (0 : Int))).bind (fun q3 => some (q3.1, false, 0)) = some r ∧ ((m_X37_store t H (4096 * sec + A) (kW (O x 5 j 2) (O x 5 j 4)) q).bind fun q1 => Z q1.1) = some q' ∧ rwE C H s t sec A (kW (O x 5 j 2) (O x 5 j 4)) r q' := fun p q hp hq hpq Z hZ => by
    have kw : 0 ≤ kW (O x 5 j 2) (O x 5 j 4) ∧ kW (O x 5 j 2) (O x 5 j 4) ≤ 4 := by
      have := (kWs (a := O x 5 j 4) hk).2; omega
    obtain ⟨u', w', e3, e4, hw, -⟩ := x_puts (l := C + 4275) (s := u) (t := t) (H := H) (sec := sec) (A := A) (m := kW (O x 5 j 2) (O x 5 j 4)) hm.1.2.2.2 hs.1 hs.2 b0 b1 kw.1 (by omega) hp hq hpq
    rw [e3, e4, Option.bind_some, Option.bind_some, Option.bind_some]
    dsimp only
    rw [hZ]
    refine ⟨_, _, rfl, rfl, .inr ⟨rfl, rfl, R.trans hw.1, hw.2.1, hw.2.2.1, fun o' p' o0' o1' q' => ?_, hw.2.2.2.2⟩⟩
    rw [hw.2.2.2.1 o' p' o0' o1' q']; exact By o' p'
  have gt : ∀ nn, nn = kW (O x 5 j 2) (O x 5 j 4) → nn = 1 ∨ nn = 2 ∨ nn = 4 → m_X35_get u (C + 4275) (C + 4275 + 34 + sec) A nn = some (leN (fun k => tBy t H sec (A + k)) nn.toNat) ∧ m_X37_loaded t H (4096 * sec + A) nn = some (W32 (leN (fun k => tBy t H sec (A + k)) nn.toNat)) ∧ 0 ≤ leN (fun k => tBy t H sec (A + k)) nn.toNat ∧ leN (fun k => tBy t H sec (A + k)) nn.toNat ≤ 4294967295 ∧ (nn = 1 ∨ nn = 2 → leN (fun k => tBy t H sec (A + k)) nn.toNat ≤ 65535) := fun nn hn h124 => by
    have lo := leN_lo (B := fun k => tBy t H sec (A + k)) (n := nn) (fun k k0 k1 => (hB k k0 (by omega)).1) nn.toNat (by omega)
    refine ⟨c_getB o0 oK oN b0 (by omega) h124 (fun k k0 k1 => (hB k k0 (by omega)).1) fun k k0 k1 => by
      show cBy u C sec (A + k) = _
      rw [By]; exact (hB k k0 (by omega)).2, t_loadB (by omega) (by omega) h124 (fun k k0 k1 => (hB k k0 (by omega)).1) fun k k0 k1 => by
      show jf t 1000 (H + 205) (4096 * sec + A + k) = tBy t H sec (A + k)
      rw [Int.add_assoc], lo.1, ?_, fun q => ?_⟩
    · rcases h124 with rfl | rfl | rfl
      · have := lo.2; have e : (256 : Int) ^ (1 : Int).toNat = 256 := by decide
        omega
      · have := lo.2; have e : (256 : Int) ^ (2 : Int).toNat = 65536 := by decide
        omega
      · have := lo.2; have e : (256 : Int) ^ (4 : Int).toNat = 4294967296 := by decide
        omega
    · rcases q with rfl | rfl
      · have := lo.2; have e : (256 : Int) ^ (1 : Int).toNat = 256 := by decide
        omega
      · have := lo.2; have e : (256 : Int) ^ (2 : Int).toNat = 65536 := by decide
        omega
  by_cases k1 : O x 5 j 2 = 1
  · have kw : kW (O x 5 j 2) (O x 5 j 4) = 4 := by rw [(kWs hk).1, k1]; rfl
    obtain ⟨r, q', e1, e2, hq⟩ := fin V V ⟨by omega, by omega⟩ ⟨by omega, by omega⟩ (fun _ _ _ => rfl) (fun w' => u_X37_relocate_173 w' H (300 * x + j) (O x 5 j 2) q0 V) fun w' => by
      rw [eu_X37_relocate_173]; unfold du_X37_relocate_173
      rw [if_pos (by omega), eu_X37_relocate_239]; unfold du_X37_relocate_239
      rw [if_pos k1, Wz_1]
    refine ⟨r, q', ?_, ?_, hq⟩
    · rw [ec]
      refine rk _ ?_
      rw [← e1, em_X35_sumUp]; unfold dm_X35_sumUp
      rw [if_neg (by omega), if_neg (by omega), if_neg (by omega), if_neg (by omega), eu_X35_sumUp_33]; unfold du_X35_sumUp_33
      rw [if_pos k1, eu_X35_sumUp_92, c40, c38, kw]; rfl
    · rw [et, if_pos k1, ← e2, kw]
  · -- sums with what stands there
    have kn : kW (O x 5 j 2) (O x 5 j 4) = 1 ∨ kW (O x 5 j 2) (O x 5 j 4) = 2 ∨ kW (O x 5 j 2) (O x 5 j 4) = 4 := (kWs hk).2
    obtain ⟨g1, g2, g3, g4, g5⟩ := gt _ rfl kn
    obtain ⟨L, hL⟩ : ∃ L, L = leN (fun k => tBy t H sec (A + k)) (kW (O x 5 j 2) (O x 5 j 4)).toNat := ⟨_, rfl⟩
    rw [← hL] at g1 g2 g3 g4 g5
    have wl := W32_lo L
    obtain ⟨p, hp⟩ : ∃ p, p = if O x 5 j 2 < 37 then L + V else L - V := ⟨_, rfl⟩
    obtain ⟨q, hq⟩ : ∃ q, q = if O x 5 j 2 < 37 then W32 L + V else W32 L - V := ⟨_, rfl⟩
    have jp' : jlg p := by rw [hp]; split <;> exact ⟨by omega, by omega⟩
    have jq' : jlg q := by rw [hq]; split <;> exact ⟨by omega, by omega⟩
    have same : ∀ i, 0 ≤ i → i < kW (O x 5 j 2) (O x 5 j 4) → byV p i = byV q i := fun i i0 i1 => by
      refine by_cg i0 (by omega) ?_
      have m32 := W32_mod L
      rw [hp, hq]; split <;> omega
    obtain ⟨r, q', e1, e2, hqq⟩ := fin p q jp' jq' same (fun w' => u_X37_relocate_239 w' H (300 * x + j) (O x 5 j 2) q0 V) fun w' => by
      rw [eu_X37_relocate_239]; unfold du_X37_relocate_239
      rw [if_neg k1, if_neg (by omega), if_neg (by omega), Wz_1]
    refine ⟨r, q', ?_, ?_, hqq⟩
    · rw [ec]
      refine rk _ ?_
      have e33 : m_X35_sumUp u (C + 4275) (C + 4275 + 34 + sec) (O x 5 j 2) = u_X35_sumUp_33 u (C + 4275) (C + 4275 + 34 + sec) (O x 5 j 2) (kW (O x 5 j 2) (O x 5 j 4)) := by
        have e12 : u_X35_sumUp_12 u (C + 4275) (C + 4275 + 34 + sec) (O x 5 j 2) = u_X35_sumUp_33 u (C + 4275) (C + 4275 + 34 + sec) (O x 5 j 2) 1 := by rw [eu_X35_sumUp_12]; rfl
        have e28 : u_X35_sumUp_28 u (C + 4275) (C + 4275 + 34 + sec) (O x 5 j 2) = u_X35_sumUp_33 u (C + 4275) (C + 4275 + 34 + sec) (O x 5 j 2) 2 := by rw [eu_X35_sumUp_28]; rfl
        rw [em_X35_sumUp, (kWs hk).1]; unfold dm_X35_sumUp
        rcases hk with z | z | z | z | z | z | z
        · exact absurd z k1
        all_goals (rw [z] at e12 e28 ⊢; simp [e12, e28])
      rw [← e1, e33, eu_X35_sumUp_33]; unfold du_X35_sumUp_33
      rw [if_neg k1, c38, g1, c40, Option.bind_some, Option.bind_some, W64_in (z := L + V) (by omega) (by omega), W64_in (z := L - V) (by omega) (by omega), hp, eu_X35_sumUp_92]
      split <;> rfl
    · obtain ⟨-, -, hut1, vo1, -, -⟩ := h.1.rl x0 x1 hS j0 j1
      rw [et, if_neg k1, ← e2, eu_X37_relocate_173]; unfold du_X37_relocate_173
      rw [if_neg (by omega), if_neg (by omega), t_needed hut1 vo1 x0 x1 j0 j1 (by omega), Option.bind_some, h.2.1.2.2, g2, Option.bind_some, Option.bind_some, W64_in (z := W32 L + V) (by omega) (by omega), W64_in (z := W32 L - V) (by omega) (by omega), hq, eu_X37_relocate_236]
      split <;> rfl
end jLki
