/-! writing an image: the twin's file, all of it -/
section jSwrite4
variable {s t u w : jS} {X n p f a b x y e k v z m d r : Int} {g g' : Int → Int} {i : Int → Int → Int → Int} {Q : jS × Int → Prop}
def updF (g : Int → Int) (p v : Int) : Int → Int := fun k => if k = p then v else g k
theorem upd_pos (h : k = p) : updF g p v k = v := by unfold updF; rw [if_pos h]
theorem upd_neg (h : ¬ k = p) : updF g p v k = g k := by unfold updF; rw [if_neg h]
theorem sF.su (h : sF u X g) (k : sSu u t X v) : sF t X g := fun k' => by rw [k.2.2 _ _ _ (by omega)]; exact h k'
theorem s_whead (h : tIm u X 0 i) (vi : vIm i) (W : wcI i 0) (hF : sF u X g) (hz : ∀ k, 0 ≤ k → k < ttI i → g k = 0) (hO : oF u X i) (ht : ttI i ≤ 16384) (cont : ∀ t g', sFl u t X → sF t X g' → pIh i g' → (∀ k, 52 ≤ k → g' k = g k) → jE (u_X42_write_308 t X (ntI i) (nlI i) 52 0) Q) : jE (u_X42_write_202 u X (rI i 3 + 1) (ntI i) (nlI i)) Q := by
  have J : ∀ {v : Int}, -2147483648 ≤ v → v ≤ 2147483647 → jin v := fun a b => ⟨a, b⟩
  obtain ⟨r0, r1, -, -⟩ := rI_lo vi (x := 3) (by omega) (by omega)
  have hw : hT i ∧ ∀ k, 0 ≤ k → k < 2048 → gmI i k := by
    unfold wcI at W
    rcases W with ⟨_, q⟩ | ⟨_, _, q⟩ | ⟨_, _, _, q⟩ | ⟨q1, q2, q3, ⟨_, q⟩ | ⟨q4, _⟩⟩
    · omega
    · omega
    · omega
    · omega
    · exact ⟨q1, q4⟩
  obtain ⟨⟨c0, c1, c2⟩, gm⟩ := hw
  have el := eI_lo vi (x := 3) (by omega) (by omega)
  have u4 : eI i 3 ≤ ntI i := by unfold ntI up4; omega
  have un : 28 ≤ nlI i := by
    have := (s_markBytes h vi (by omega) (by omega)).2
    unfold nlI up4; omega
  have tt : ttI i = ntI i + nlI i := rfl
  rw [eu_X42_write_202]; unfold du_X42_write_202
  refine jS_call (s_w4 hF (by omega) (by omega) (J (by omega) (by omega))) fun q1 ⟨k1, w1⟩ => ?_
  refine jS_call (s_w4 w1 (by omega) (by omega) (J (by omega) (by omega))) fun q2 ⟨k2, w2⟩ => ?_
  refine jS_call (s_w2 w2 (by omega) (by omega) (J (by omega) (by omega))) fun q3 ⟨k3, w3⟩ => ?_
  refine jS_call (s_w2 w3 (by omega) (by omega) (J (by omega) (by omega))) fun q4 ⟨k4, w4⟩ => ?_
  refine jS_call (s_w4 w4 (by omega) (by omega) (J (by omega) (by omega))) fun q5 ⟨k5, w5⟩ => ?_
  have K5 : sFl u q5.1 X := k1.trans (k2.trans (k3.trans (k4.trans k5)))
  have I5 := h.wt K5.wt
  rw [jlt_in (by omega) (by omega), Option.bind_some, I5.2.1]
  refine jS_call (s_w4 w5 (by omega) (by omega) vi.2.1) fun q6 ⟨k6, w6⟩ => ?_
  refine jS_call (s_w4 w6 (by omega) (by omega) (J (by omega) (by omega))) fun q7 ⟨k7, w7⟩ => ?_
  have K7 : sFl u q7.1 X := K5.trans (k6.trans k7)
  have hS := s_shorts (h.wt K7.wt) vi c0 c2 gm
  rw [hS, Option.bind_some]
  have eh : (if 0 < cn (ctI i 1) (i 1 0 2 / 2) then u_X42_write_275 q7.1 X (rI i 3 + 1) (ntI i) (nlI i) 1 36 X else u_X42_write_275 q7.1 X (rI i 3 + 1) (ntI i) (nlI i) 0 36 X) = u_X42_write_275 q7.1 X (rI i 3 + 1) (ntI i) (nlI i) (hvI i) 36 X := by
    unfold hvI
    rw [if_neg c0]
    by_cases c : 0 < cn (ctI i 1) (i 1 0 2 / 2)
    · rw [if_pos c, if_pos c]
    · rw [if_neg c, if_neg c]
  have hv : 0 ≤ hvI i ∧ hvI i ≤ 1 := by
    unfold hvI
    generalize cn (ctI i 1) (if i 1 0 0 = 0 then 0 else i 1 0 2 / 2) = K
    split <;> omega
  rw [eh, eu_X42_write_275]; unfold du_X42_write_275
  refine jS_call (s_w4 w7 (by omega) (by omega) (J (by omega) (by omega))) fun q8 ⟨k8, w8⟩ => ?_
  refine jS_call (s_w2 w8 (by omega) (by omega) (J (by omega) (by omega))) fun q9 ⟨k9, w9⟩ => ?_
  refine jS_call (s_w2 w9 (by omega) (by omega) (J (by omega) (by omega))) fun q10 ⟨k10, w10⟩ => ?_
  refine jS_call (s_w2 w10 (by omega) (by omega) (J (by omega) (by omega))) fun q11 ⟨k11, w11⟩ => ?_
  refine cont q11.1 _ (K7.trans (k8.trans (k9.trans (k10.trans k11)))) w11 ?_ (fun k hk => by rw [gN_lo (by omega), gN_lo (by omega), gN_lo (by omega), gN_lo (by omega), gN_lo (by omega), gN_lo (by omega), gN_lo (by omega), gN_lo (by omega), gN_lo (by omega), gN_lo (by omega), gN_lo (by omega)])
  unfold pIh
  refine ⟨?_, ?_, fun k k0 k1 => ?_, ?_, ?_, ?_, ?_, ?_, ?_, ?_, ?_, ?_, ?_, fun k k0 k1 => ?_⟩
  · repeat (first | exact gN_4 | refine B4.gn ?_ (by omega))
  · repeat (first | exact gN_4 | refine B4.gn ?_ (by omega))
  · rw [gN_lo (by omega), gN_lo (by omega), gN_lo (by omega), gN_lo (by omega), gN_lo (by omega), gN_lo (by omega), gN_lo (by omega), gN_lo (by omega), gN_lo (by omega), gN_lo (by omega), gN_lo (by omega)]
    exact hz k (by omega) (by omega)
  · repeat (first | exact gN_2 | refine B2.gn ?_ (by omega))
  · repeat (first | exact gN_2 | refine B2.gn ?_ (by omega))
  · repeat (first | exact gN_4 | refine B4.gn ?_ (by omega))
  · repeat (first | exact gN_4 | refine B4.gn ?_ (by omega))
  · repeat (first | exact gN_4 | refine B4.gn ?_ (by omega))
  · have Z : B4 g 32 0 := ⟨hz _ (by omega) (by omega), hz _ (by omega) (by omega), hz _ (by omega) (by omega), hz _ (by omega) (by omega)⟩
    repeat (first | exact Z | refine B4.gn ?_ (by omega))
  · repeat (first | exact gN_4 | refine B4.gn ?_ (by omega))
  · repeat (first | exact gN_2 | refine B2.gn ?_ (by omega))
  · repeat (first | exact gN_2 | refine B2.gn ?_ (by omega))
  · repeat (first | exact gN_2 | refine B2.gn ?_ (by omega))
  · rw [gN_lo (by omega), gN_lo (by omega), gN_lo (by omega), gN_lo (by omega), gN_lo (by omega), gN_lo (by omega), gN_lo (by omega), gN_lo (by omega), gN_lo (by omega), gN_lo (by omega), gN_lo (by omega)]
    exact hz k (by omega) (by omega)
theorem s_wareas (h : tIm u X 0 i) (vi : vIm i) (hF : sF u X g) (hz : ∀ k, eI i 0 ≤ k → k < ttI i → g k = 0) (hO : oF u X i) (ht : ttI i ≤ 16384) (hn : 28 ≤ nlI i) (hh : pIh i g) (cont : ∀ t g', sFl u t X → sF t X g' → pIh i g' → (∀ x, 0 ≤ x → x < 3 → ¬ i 1 x 0 = 0 → pIr i g' x ∧ pIb i g' x) → (∀ k, eI i 3 ≤ k → k < ttI i → g' k = 0) → jE (u_X42_write_440 t X (ntI i) (nlI i) (52 + 32 * rI i 3)) Q) : jE (u_X42_write_308 u X (ntI i) (nlI i) 52 0) Q := by
  have J : ∀ {v : Int}, -2147483648 ≤ v → v ≤ 2147483647 → jin v := fun a b => ⟨a, b⟩
  have pg := vi.2.2.1.lo
  obtain ⟨r0, r1, -, -⟩ := rI_lo vi (x := 3) (by omega) (by omega)
  have el3 := eI_lo vi (x := 3) (by omega) (by omega)
  have u4 : eI i 3 ≤ ntI i := by unfold ntI up4; omega
  have tt : ttI i = ntI i + nlI i := rfl
  have e0 : eI i 0 = 52 + 32 * (rI i 3 + 1) := rfl
  rw [eu_X42_write_308]; unfold du_X42_write_308
  refine jS_for (fun x t => ∃ g', sFl u t X ∧ sF t X g' ∧ pIh i g' ∧ (∀ y, 0 ≤ y → y < x → ¬ i 1 y 0 = 0 → pIr i g' y ∧ pIb i g' y) ∧ ∀ k, eI i x ≤ k → k < ttI i → g' k = 0) (fun x => [X, ntI i, nlI i, 52 + 32 * rI i x, x]) 0 3 (by omega) ⟨g, sFl.rfl, hF, hh, fun y y0 y1 => by omega, hz⟩ (fun x t x0 x1 ⟨g1, z1, z2, z3, z4, z5⟩ => ?_) (fun t ⟨g1, z1, z2, z3, z4, z5⟩ => ?_)
  · show jE (b_X42_write_308 t X (ntI i) (nlI i) (52 + 32 * rI i x) x) _
    unfold b_X42_write_308
    have H := h.wt z1.wt
    have hx := H.at0 x0 x1
    have hO1 := hO.fl z1
    obtain ⟨q1, q2, q3, q4⟩ := rI_lo vi x0 (show x ≤ 3 by omega)
    have el := eI_lo vi x0 (show x ≤ 3 by omega)
    have em := eI_m vi (show 0 ≤ (0 : Int) by omega) x0 (show x ≤ 3 by omega)
    have em3 := eI_m vi (show 0 ≤ x + 1 by omega) (show x + 1 ≤ 3 by omega) (Int.le_refl 3)
    have v0 := (vi.1 x x0 x1).1
    have e434 : ∀ t p, p = 52 + 32 * rI i (x + 1) → u_X42_write_434 t X (ntI i) (nlI i) p x = some (.inl (t, [X, ntI i, nlI i, 52 + 32 * rI i (x + 1), x + 1])) := fun t p hp => by
      rw [eu_X42_write_434]; unfold du_X42_write_434
      rw [W32_in (by omega) (by omega), hp]
    rw [if_pos x1, jlt_in x0 (by omega), Option.bind_some, hx.1]
    by_cases c : i 1 x 0 = 0
    · rw [if_pos c, e434 _ _ (by rw [q4 x1, c, Int.add_zero])]
      refine jS_end ⟨rfl, g1, z1, z2, z3, fun y y0 y1 cy => ?_, fun k k0 k1 => z5 k (by rw [eI_s x0, if_pos c] at k0; exact k0) k1⟩
      by_cases qy : y = x
      · subst qy; exact absurd c cy
      · exact z4 y y0 (by omega) cy
    obtain ⟨a1, a2, a3, a4⟩ := hx.2 c
    have vv := (vi.1 x x0 x1).2 c
    have bl := bI_lo vi x0 x1 c
    have rx : rI i (x + 1) = rI i x + 1 := by rw [q4 x1]; omega
    have rx3 : rI i x + 1 ≤ rI i 3 := by have := rI_m vi x0 (show x < 3 by omega) (Int.le_refl 3); omega
    have e8 : m_X42_rightsOf t x = some (rgI x) := by rw [e_X42_rightsOf]; rfl
    have rg : 4 ≤ rgI x ∧ rgI x ≤ 6 := by unfold rgI; repeat' split; all_goals omega
    rw [if_neg c, jlt_in x0 (by omega), Option.bind_some, hO1.1 x x0 x1 c, jlt_in x0 (by omega), Option.bind_some, a1, jlt_in x0 (by omega), Option.bind_some, a2, Option.bind_some, jlt_in x0 (by omega), Option.bind_some, a3, e8, Option.bind_some, jlt_in (by omega) (by omega), Option.bind_some, H.2.2.1, W32_in (z := i 1 x 2 + i 1 x 3) (by omega) (by omega)]
    refine jS_call (s_wrow z2 (by omega) (by omega) (J (by omega) (by omega)) (J (by omega) (by omega)) (J (by omega) (by omega)) (J (by omega) (by omega)) (J (by omega) (by omega)) (J (by omega) (by omega)) (J (by omega) (by omega))) fun q ⟨k1, g2, w1, w2, w3⟩ => ?_
    have K1 := z1.trans k1
    generalize q.1 = t1 at k1 w1 K1 ⊢
    rw [eu_X42_write_384]; unfold du_X42_write_384
    refine jS_for (fun m t => ∃ g', sFl u t X ∧ sF t X g' ∧ (∀ y, y < bI i x ∨ bI i x + m ≤ y → g' y = g2 y) ∧ ∀ k, 0 ≤ k → k < m → g' (bI i x + k) = i 0 x k) (fun m => [X, ntI i, nlI i, 52 + 32 * rI i x, x, m]) 0 (i 1 x 2) (by omega) ⟨g2, K1, w1, fun _ _ => rfl, fun k k0 k1 => by omega⟩ (fun m t m0 m1 ⟨g3, c1, c2, c3, c4⟩ => ?_) (fun t ⟨g3, c1, c2, c3, c4⟩ => ?_)
    · show jE (b_X42_write_384 t X (ntI i) (nlI i) _ x m) _
      unfold b_X42_write_384
      have H := h.wt c1.wt
      obtain ⟨a1, a2, a3, a4⟩ := (H.at0 x0 x1).2 c
      rw [jlt_in x0 (by omega), Option.bind_some, a2, if_pos m1, jlt_in x0 (by omega), Option.bind_some, (hO.fl c1).1 x x0 x1 c, W32_in (z := 4096 * x) (by omega) (by omega), W32_in (z := 4096 * x + m) (by omega) (by omega), jlt_in (by omega) (by omega), Option.bind_some, a4 m m0 m1, W32_in (z := bI i x + m) (by omega) (by omega), jst_in (by omega) (by omega), Option.bind_some, W32_in (by omega) (by omega)]
      refine jS_end ⟨rfl, updF g3 (bI i x + m) (i 0 x m), c1.jp, fun k => ?_, fun y hy => ?_, fun k k0 k1 => ?_⟩
      · by_cases ck : k = bI i x + m
        · rw [jf_pos ⟨rfl, rfl, ck⟩, upd_pos ck]
        · rw [jf_neg (by omega), upd_neg ck]; exact c2 k
      · rw [upd_neg (by omega)]; exact c3 y (by omega)
      · by_cases ck : k = m
        · rw [upd_pos (by omega), ck]
        · rw [upd_neg (by omega)]; exact c4 k k0 (by omega)
    · show jE (b_X42_write_384 t X (ntI i) (nlI i) _ x (i 1 x 2)) _
      unfold b_X42_write_384
      have H := h.wt c1.wt
      obtain ⟨a1, a2, a3, a4⟩ := (H.at0 x0 x1).2 c
      rw [jlt_in x0 (by omega), Option.bind_some, a2, if_neg (by omega), eu_X42_write_431]; unfold du_X42_write_431
      rw [e434 _ _ (by rw [W32_in (by omega) (by omega), rx]; omega)]
      have F : ∀ k, (k < bI i x ∨ bI i x + i 1 x 2 ≤ k) → (k < 52 + 32 * rI i x ∨ 52 + 32 * rI i x + 32 ≤ k) → g3 k = g1 k := fun k k0 k1 => (c3 k k0).trans (w2 k k1)
      refine jS_inr (jS_end ⟨rfl, g3, c1, c2, z3.of fun k hk => F k (by omega) (by omega), fun y y0 y1 cy => ?_, fun k k0 k1 => by rw [bl.2.2] at k0; rw [F k (by omega) (by omega)]; exact z5 k (by omega) k1⟩)
      by_cases qy : y = x
      · subst qy
        exact ⟨w3.of fun k k0 k1 => c3 k (by omega), fun k k0 k1 => by rw [F k (by omega) (by omega)]; exact z5 k k0 (by omega), c4⟩
      · obtain ⟨y1', y2'⟩ := z4 y y0 (by omega) cy
        have ry := rI_m vi y0 (show y < x by omega) (by omega)
        have vy0 := (vi.1 y y0 (by omega)).1
        have ey := eI_m vi (show 0 ≤ y + 1 by omega) (show y + 1 ≤ x by omega) (by omega)
        have by' := bI_lo vi y0 (by omega) cy
        have vy := (vi.1 y y0 (by omega)).2 cy
        have ey0 := eI_m vi (Int.le_refl 0) y0 (show y ≤ 3 by omega)
        exact ⟨y1'.of fun k k0 k1 => F k (by omega) (by omega), y2'.of vy.2.2.1 by'.1 fun k k0 k1 => F k (by omega) (by omega)⟩
  · show jE (b_X42_write_308 t X (ntI i) (nlI i) (52 + 32 * rI i 3) 3) _
    unfold b_X42_write_308
    rw [if_neg (by omega)]
    exact jS_inr (cont t g1 z1 z2 z3 (fun x x0 x1 c => z4 x x0 x1 c) z5)
theorem s_write (h : tIm s X 0 i) (vi : vIm i) : jE (m_X42_write s X) fun q => sWt s q.1 X ∧ ((∃ r, wcI i r ∧ ¬ r = 0 ∧ q.2 = -r ∧ q.1 = s) ∨ wcI i 0 ∧ 16384 < ttI i ∧ q.2 = -6 ∧ (∀ c a k, ¬ (c = 1000 ∧ a = X + 11) → jf q.1 c a k = jf s c a k) ∨ wcI i 0 ∧ ttI i ≤ 16384 ∧ q.2 = ttI i ∧ jf q.1 46 X 9 = ttI i ∧ ∃ g, sF q.1 X g ∧ pIm i g) := by
  have J : ∀ {v : Int}, -2147483648 ≤ v → v ≤ 2147483647 → jin v := fun a b => ⟨a, b⟩
  obtain ⟨r, er, hr⟩ := s_bad h vi
  have rl := wcI_lo hr
  rw [em_X42_write]; unfold dm_X42_write
  rw [er, Option.bind_some]
  by_cases c : 0 < r
  · rw [if_pos c, W32_in (by omega) (by omega)]
    exact jS_end ⟨sWt.rfl, .inl ⟨r, hr, by omega, rfl, rfl⟩⟩
  have e0 : r = 0 := by omega
  subst e0
  have hw : hT i := by
    unfold wcI at hr
    rcases hr with ⟨_, q⟩ | ⟨q, _⟩ | ⟨q, _⟩ | ⟨q, _⟩
    · omega
    · exact q
    · exact q
    · exact q
  obtain ⟨r0, r1, -, -⟩ := rI_lo vi (x := 3) (by omega) (by omega)
  have vv := (vi.1 0 (by omega) (by omega)).2 hw.1
  rw [if_neg c]
  refine s_wlay h vi hw.1 (fun t k1 k2 k3 => ⟨k1, .inr (.inl ⟨hr, k3, rfl, k2⟩)⟩) fun t k1 o1 t1 => ?_
  have I1 := h.wt k1
  have m3 := (s_markBytes I1 vi (by omega) (by omega)).2
  have el3 := eI_lo vi (x := 3) (by omega) (by omega)
  have u4 : eI i 3 ≤ ntI i ∧ ntI i % 4 = 0 := by unfold ntI up4; omega
  have u5 : 28 + mkN i ≤ nlI i := by unfold nlI up4; omega
  have tt : ttI i = ntI i + nlI i := rfl
  have eE0 : eI i 0 = 52 + 32 * (rI i 3 + 1) := rfl
  rw [eu_X42_write_179]; unfold du_X42_write_179
  refine jS_for (fun m w => sFl t w X ∧ ∀ k, 0 ≤ k → k < m → jf w 1000 (X + 9) k = 0) (fun m => [X, rI i 3 + 1, ntI i, nlI i, m]) 0 (ttI i) (by omega) ⟨sFl.rfl, fun k k0 k1 => by omega⟩ (fun m w m0 m1 ⟨z1, z2⟩ => ?_) (fun w ⟨z1, z2⟩ => ?_)
  · show jE (b_X42_write_179 w X _ _ _ m) _
    unfold b_X42_write_179
    rw [(o1.fl z1).2, if_pos m1, jst_in m0 (by omega), Option.bind_some, W32_in (by omega) (by omega)]
    refine jS_end ⟨rfl, z1.jp, fun k k0 k1 => ?_⟩
    by_cases ck : k = m
    · exact jf_pos ⟨rfl, rfl, ck⟩
    · rw [jf_neg (by omega)]; exact z2 k k0 (by omega)
  show jE (b_X42_write_179 w X _ _ _ (ttI i)) _
  unfold b_X42_write_179
  rw [(o1.fl z1).2, if_neg (by omega)]
  refine jS_inr ?_
  have I2 := I1.wt z1.wt
  have O2 := o1.fl z1
  refine s_whead I2 vi hr (g := jf w 1000 (X + 9)) (fun _ => rfl) z2 O2 t1 fun t3 g3 k3 w3 h3 q3 => ?_
  have I3 := I2.wt k3.wt
  have O3 := O2.fl k3
  refine s_wareas I3 vi w3 (fun k k0 k1' => by rw [q3 k (by omega)]; exact z2 k (by omega) k1') O3 t1 (by omega) h3 fun t4 g4 k4 w4 h4 a4 q4 => ?_
  have I4 := I3.wt k4.wt
  have O4 := O3.fl k4
  rw [eu_X42_write_440]; unfold du_X42_write_440
  refine jS_call (s_wrow w4 (by omega) (by omega) (J (by omega) (by omega)) (J (by omega) (by omega)) (J (by omega) (by omega)) (J (by omega) (by omega)) (J (by omega) (by omega)) (J (by omega) (by omega)) (J (by omega) (by omega))) fun q5 ⟨k5, g5, w5, f5, R5⟩ => ?_
  rw [W32_in (z := nlI i - 20) (by omega) (by omega), W32_in (z := ntI i + 4) (by omega) (by omega), W32_in (z := ntI i + 8) (by omega) (by omega), W32_in (z := ntI i + 12) (by omega) (by omega), W32_in (z := ntI i + 16) (by omega) (by omega), W32_in (z := ntI i + 20) (by omega) (by omega), W32_in (z := ntI i + 24) (by omega) (by omega)]
  refine jS_call (s_w4 w5 (by omega) (by omega) (J (by omega) (by omega))) fun q6 ⟨k6, w6⟩ => ?_
  refine jS_call (s_w4 w6 (by omega) (by omega) (J (by omega) (by omega))) fun q7 ⟨k7, w7⟩ => ?_
  refine jS_call (s_w4 w7 (by omega) (by omega) (J (by omega) (by omega))) fun q8 ⟨k8, w8⟩ => ?_
  refine jS_call (s_w4 w8 (by omega) (by omega) (J (by omega) (by omega))) fun q9 ⟨k9, w9⟩ => ?_
  refine jS_call (s_w4 w9 (by omega) (by omega) (J (by omega) (by omega))) fun q10 ⟨k10, w10⟩ => ?_
  have K10 : sFl t4 q10.1 X := k5.trans (k6.trans (k7.trans (k8.trans (k9.trans k10))))
  have I10 := I4.wt K10.wt
  have O10 := O4.fl K10
  have s0 := ((I10.at0 (x := 0) (by omega) (by omega)).2 hw.1).2.1
  rw [jlt_in (by omega) (by omega), Option.bind_some, s0, jdv_in (by decide), Option.bind_some, I_div_n (by omega) (by omega) (by omega) (by omega)]
  refine jS_call (s_w4 w10 (by omega) (by omega) (J (by omega) (by omega))) fun q11 ⟨k11, w11⟩ => ?_
  have I11 := I10.wt k11.wt
  refine jS_call (s_sumOf I11 vi (by omega) (by omega)) fun q12 ⟨e12, v12, k12⟩ => ?_
  have I12 := I11.su k12
  have O12 := (O10.fl k11).su k12
  have w12 := w11.su k12
  rw [e12]
  refine jS_call (s_w4 w12 (by omega) (by omega) (by unfold sumI; exact I_xor_jin _ _)) fun q13 ⟨k13, w13⟩ => ?_
  have I13 := I12.wt k13.wt
  have O13 := O12.fl k13
  have G : ∃ g6, sF q13.1 X g6 ∧ (∀ k, k < ntI i ∨ ntI i + 28 ≤ k → g6 k = g5 k) ∧ B4 g6 (ntI i) 6 ∧ B4 g6 (ntI i + 4) (nlI i - 20) ∧ B4 g6 (ntI i + 8) 1 ∧ B4 g6 (ntI i + 12) 1802658125 ∧ B4 g6 (ntI i + 16) 115 ∧ B4 g6 (ntI i + 20) (i 1 0 2 / 2) ∧ B4 g6 (ntI i + 24) (sumI i) := by
    refine ⟨_, w13, fun k hk => ?_, ?_, ?_, ?_, ?_, ?_, ?_, ?_⟩
    · rw [gN_lo (by omega), gN_lo (by omega), gN_lo (by omega), gN_lo (by omega), gN_lo (by omega), gN_lo (by omega), gN_lo (by omega)]
    all_goals (repeat (first | exact gN_4 | refine B4.gn ?_ (by omega)))
  obtain ⟨g6, w6', f6, b1, b2, b3, b4, b5, b6, b7⟩ := G
  have K13 : sWt s q13.1 X := k1.trans (z1.wt.trans (k3.wt.trans (k4.wt.trans (K10.wt.trans (k11.wt.trans (k12.wt.trans k13.wt))))))
  generalize q13.1 = t5 at w6' I13 O13 K13 ⊢
  rw [eu_X42_write_534]; unfold du_X42_write_534
  refine jS_for (fun m t => ∃ g', sFl t5 t X ∧ sF t X g' ∧ (∀ k, k < ntI i + 28 ∨ ntI i + 28 + m ≤ k → g' k = g6 k) ∧ ∀ k, 0 ≤ k → k < m → g' (ntI i + 28 + k) = mkB (fun k => i 3 k 0) k) (fun m => [X, ntI i, m]) 0 (mkN i) m3.1 ⟨g6, sFl.rfl, w6', fun _ _ => rfl, fun k k0 k1 => by omega⟩ (fun m t m0 m1 ⟨g7, y1, y2, y3, y4⟩ => ?_) (fun t ⟨g7, y1, y2, y3, y4⟩ => ?_)
  · show jE (b_X42_write_534 t X (ntI i) m) _
    unfold b_X42_write_534
    have H := I13.wt y1.wt
    rw [(s_markBytes H vi (by omega) (by omega)).1, Option.bind_some, if_pos m1, s_markByte H vi (by omega) (by omega) m0 (by omega), Option.bind_some, W32_in (z := ntI i + 28) (by omega) (by omega), W32_in (z := ntI i + 28 + m) (by omega) (by omega), jst_in (by omega) (by omega), Option.bind_some, W32_in (by omega) (by omega)]
    refine jS_end ⟨rfl, updF g7 (ntI i + 28 + m) (mkB (fun k => i 3 k 0) m), y1.jp, fun k => ?_, fun k hk => ?_, fun k k0 k1 => ?_⟩
    · by_cases ck : k = ntI i + 28 + m
      · rw [jf_pos ⟨rfl, rfl, ck⟩, upd_pos ck]
      · rw [jf_neg (by omega), upd_neg ck]; exact y2 k
    · rw [upd_neg (by omega)]; exact y3 k (by omega)
    · by_cases ck : k = m
      · rw [upd_pos (by omega), ck]
      · rw [upd_neg (by omega)]; exact y4 k k0 (by omega)
  · show jE (b_X42_write_534 t X (ntI i) (mkN i)) _
    unfold b_X42_write_534
    have H := I13.wt y1.wt
    rw [(s_markBytes H vi (by omega) (by omega)).1, Option.bind_some, if_neg (by omega), eu_X42_write_569]; unfold du_X42_write_569
    have O7 := O13.fl y1
    rw [O7.2]
    have F : ∀ k, k < ntI i → g7 k = g5 k := fun k hk => (y3 k (by omega)).trans (f6 k (by omega))
    have F4 : ∀ k, k < ntI i → (k < 52 + 32 * rI i 3 ∨ eI i 0 ≤ k) → g7 k = g4 k := fun k hk h2 => (F k hk).trans (f5 k (by omega))
    have F28 : ∀ k, k < ntI i + 28 → g7 k = g6 k := fun k hk => y3 k (by omega)
    refine jS_inr (jS_end ⟨K13.trans y1.wt, .inr (.inr ⟨hr, t1, rfl, O7.2, g7, y2, ?_, fun x x0 x1 cx => ?_, ?_, ?_⟩)⟩)
    · exact h4.of fun k hk => F4 k (by omega) (by omega)
    · obtain ⟨p1, p2⟩ := a4 x x0 x1 cx
      have rm := rI_m vi x0 (show x < 3 by omega) (Int.le_refl 3)
      have vx0 := (vi.1 x x0 x1).1
      have bl := bI_lo vi x0 x1 cx
      have em := eI_m vi (show 0 ≤ x + 1 by omega) (show x + 1 ≤ 3 by omega) (Int.le_refl 3)
      have e0 := eI_m vi (Int.le_refl 0) x0 (show x ≤ 3 by omega)
      have vx := (vi.1 x x0 x1).2 cx
      exact ⟨p1.of fun k k0 k1 => F4 k (by omega) (by omega), p2.of vx.2.2.1 bl.1 fun k k0 k1 => F4 k (by omega) (by omega)⟩
    · exact R5.of fun k k0 k1 => F k (by omega)
    · have q4' : ∀ k, ntI i + 28 + mkN i ≤ k → k < ttI i → g7 k = 0 := fun k k0 k1 => by
        rw [y3 k (by omega), f6 k (by omega), f5 k (by omega)]; exact q4 k (by omega) k1
      exact ⟨fun k k0 k1 => by rw [F4 k k1 (by omega)]; exact q4 k k0 (by omega), b1.of fun k k0 k1 => F28 k (by omega), b2.of fun k k0 k1 => F28 k (by omega), b3.of fun k k0 k1 => F28 k (by omega), b4.of fun k k0 k1 => F28 k (by omega), b5.of fun k k0 k1 => F28 k (by omega), b6.of fun k k0 k1 => F28 k (by omega), b7.of fun k k0 k1 => F28 k (by omega), y4, q4'⟩
end jSwrite4
