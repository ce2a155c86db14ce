/-! writing an image: the component's areas, all of it -/
section jIwrite4
variable {s t u w : jS} {B N R n p f a b x y e k z v d lo m S O q : Int} {g g' : Int → Int} {i j : Int → Int → Int → Int}
theorem i_wareas (h : iV s R b i) (hz : iZ s u R g (eI i 0)) (hh : pIh i g) (hr : ∀ x, 0 ≤ x → x < 3 → ¬ i 1 x 0 = 0 → pIr0 i g x) (hn : pRw g (52 + 32 * rI i 3) 4 0 0 (nlI i) 0 4 4) {Q : jS × Int → Prop} (cont : ∀ t g', iZ s t R g' (eI i 3) → pIh i g' → (∀ x, 0 ≤ x → x < 3 → ¬ i 1 x 0 = 0 → pIr i g' x ∧ pIb i g' x) → pRw g' (52 + 32 * rI i 3) 4 0 0 (nlI i) 0 4 4 → jE (u_X26_write_292 t R b (52 + 32 * rI i 3)) Q) : jE (u_X26_write_171 u R b 52 (b + 1) 3 0) Q := by
  have vi := h.2.2.2.2.1
  have pg := vi.2.2.1.lo
  have r3 := rI_lo vi (x := 3) (by omega) (by omega)
  rw [eu_X26_write_171]; unfold du_X26_write_171
  refine jS_for (fun x t => ∃ g', iZ s t R g' (eI i x) ∧ pIh i g' ∧ (∀ y, 0 ≤ y → y < x → ¬ i 1 y 0 = 0 → pIr i g' y ∧ pIb i g' y) ∧ (∀ y, x ≤ y → y < 3 → ¬ i 1 y 0 = 0 → pIr0 i g' y) ∧ pRw g' (52 + 32 * rI i 3) 4 0 0 (nlI i) 0 4 4) (fun x => [R, b, 52 + 32 * rI i x, b + 1, 3, x]) 0 3 (by omega) ⟨g, hz, hh, fun y y0 y1 => by omega, fun y y0 y1 => hr y y0 y1, hn⟩ (fun x t x0 x1 ⟨g1, z1, z2, z3, z4, z5⟩ => ?_) (fun t ⟨g1, z1, z2, z3, z4, z5⟩ => ?_)
  · show jE (b_X26_write_171 t R b (52 + 32 * rI i x) (b + 1) 3 x) _
    unfold b_X26_write_171
    have H := h.fx z1.1
    obtain ⟨-, -, s3, ⟨s4, s5⟩, -⟩ := H.sg x0 x1
    have hx := H.2.2.1.1 x x0 x1
    obtain ⟨q1, q2, q3, q4⟩ := rI_lo vi x0 (show x ≤ 3 by omega)
    have el := eI_lo vi x0 (show x ≤ 3 by omega)
    have v0 := (vi.1 x x0 x1).1
    have e286 : ∀ t p, p = 52 + 32 * rI i (x + 1) → u_X26_write_286 t R b p (b + 1) 3 x = some (.inl (t, [R, b, 52 + 32 * rI i (x + 1), b + 1, 3, x + 1])) := fun t p hp => by
      rw [eu_X26_write_286]; unfold du_X26_write_286
      rw [W32_in (by omega) (by omega), hp]
    rw [if_pos x1, s3, Option.bind_some, jrd_in s4 s5, Option.bind_some, hx.1]
    by_cases c : i 1 x 0 = 0
    · rw [if_pos c, e286 _ _ (by rw [q4 x1, c, Int.add_zero])]
      refine jS_end ⟨rfl, g1, by rw [eI_s x0, if_pos c]; exact z1, z2, fun y y0 y1 cy => ?_, fun y y0 y1 => z4 y (by omega) y1, z5⟩
      by_cases qy : y = x
      · subst qy; exact absurd c cy
      · exact z3 y y0 (by omega) cy
    rw [if_neg c, eu_X26_write_196]; unfold du_X26_write_196
    have vv := (vi.1 x x0 x1).2 c
    have bl := bI_lo vi x0 x1 c
    have el1 := eI_lo vi (x := x + 1) (by omega) (by omega)
    have rx : rI i (x + 1) = rI i x + 1 := by rw [q4 x1]; omega
    have rx3 : rI i x + 1 ≤ rI i 3 := by have := rI_m vi x0 (show x < 3 by omega) (Int.le_refl 3); omega
    -- zeros ahead
    refine jS_for (fun k t => ∃ g', iZ s t R g' k ∧ (∀ y, y < eI i x → g' y = g1 y) ∧ ∀ y, eI i x ≤ y → y < k → g' y = 0) (fun k => [R, b, 52 + 32 * rI i x, b + 1, 3, x, vsg b x]) (eI i x) (bI i x) bl.1 ⟨g1, z1, fun _ _ => rfl, fun y y0 y1 => by omega⟩ (fun k t k0 k1 ⟨g2, d1, d2, d3⟩ => ?_) (fun t ⟨g2, d1, d2, d3⟩ => ?_)
    · show jE (b_X26_write_196 t R b _ (b + 1) 3 x (vsg b x)) _
      unfold b_X26_write_196
      have H := h.fx d1.1
      obtain ⟨-, -, s3, ⟨s4, s5⟩, -⟩ := H.sg x0 x1
      obtain ⟨a1, a2, a3, -⟩ := (H.2.2.1.1 x x0 x1).2 c
      obtain ⟨⟨b0, b1⟩, -⟩ := T43 H.2.1
      rw [jrd_in b0 b1, Option.bind_some, H.2.2.1.2.2.1, d1.2.1, jdv_in (by omega), Option.bind_some, jrd_in s4 s5, Option.bind_some, a1, Option.bind_some, jdv_in (by omega), Option.bind_some, I_rem_n (x := k) (by omega) (by omega) (by omega) (by omega), I_rem_n (x := i 1 x 1) (by omega) (by omega) (by omega) (by omega), if_neg (aL_ne (by omega) k0 k1)]
      refine jS_call (i_p1 d1.2 (by omega) 0) fun q ⟨k9, w9⟩ => jS_end ⟨rfl, _, d1.nx k9 w9, fun y hy => by rw [gN_lo (by omega)]; exact d2 y hy, fun y y0 y1 => ?_⟩
      by_cases cy : y = k
      · rw [cy, gN_1]; rfl
      · rw [gN_lo (by omega)]; exact d3 y y0 (by omega)
    show jE (b_X26_write_196 t R b _ (b + 1) 3 x (vsg b x)) _
    unfold b_X26_write_196
    have H := h.fx d1.1
    obtain ⟨-, -, s3, ⟨s4, s5⟩, -⟩ := H.sg x0 x1
    obtain ⟨a1, a2, a3, -⟩ := (H.2.2.1.1 x x0 x1).2 c
    obtain ⟨⟨b0, b1⟩, -⟩ := T43 H.2.1
    have ae : bI i x % i 2 1 0 = i 1 x 1 % i 2 1 0 := aL_eq _ _ (by omega)
    rw [jrd_in b0 b1, Option.bind_some, H.2.2.1.2.2.1, d1.2.1, jdv_in (by omega), Option.bind_some, jrd_in s4 s5, Option.bind_some, a1, Option.bind_some, jdv_in (by omega), Option.bind_some, I_rem_n (x := bI i x) (by omega) (by omega) (by omega) (by omega), I_rem_n (x := i 1 x 1) (by omega) (by omega) (by omega) (by omega), if_pos ae, eu_X26_write_232]; unfold du_X26_write_232
    rw [d1.2.1, W32_in (z := 52 + 32 * rI i x + 4) (by omega) (by omega)]
    refine jS_inr (jS_call (i_s4' d1.2 ⟨by omega, by omega⟩ (by omega) (by omega) (by omega)) fun q ⟨k3, w3⟩ => ?_)
    have z3' := d1.nx k3 w3
    have f1 : ∀ y, y < eI i x → ¬ (52 + 32 * rI i x + 4 ≤ y ∧ y < 52 + 32 * rI i x + 8) → gNb g2 (52 + 32 * rI i x + 4) 4 (bI i x) y = g1 y := fun y hy hn => by rw [gN_lo (by omega)]; exact d2 y hy
    have f2 : ∀ y, eI i x ≤ y → y < bI i x → gNb g2 (52 + 32 * rI i x + 4) 4 (bI i x) y = 0 := fun y y0 y1 => by rw [gN_lo (by omega)]; exact d3 y y0 y1
    have f3 : pRw (gNb g2 (52 + 32 * rI i x + 4) 4 (bI i x)) (52 + 32 * rI i x) 1 (bI i x) (i 1 x 1) (i 1 x 2) (i 1 x 2 + i 1 x 3) (rgI x) (i 2 1 0) := ((z4 x (Int.le_refl _) x1 c).of fun k k0 k1 => d2 k (by omega)).at1
    generalize gNb g2 (52 + 32 * rI i x + 4) 4 (bI i x) = g3 at z3' f1 f2 f3
    generalize q.1 = t3 at z3' ⊢
    rw [eu_X26_write_252]; unfold du_X26_write_252
    refine jS_for (fun m t => ∃ g', iZ s t R g' (bI i x + m) ∧ (∀ y, y < bI i x → g' y = g3 y) ∧ ∀ k, 0 ≤ k → k < m → g' (bI i x + k) = i 0 x k) (fun m => [R, b, 52 + 32 * rI i x, b + 1, 3, x, vsg b x, m]) 0 (i 1 x 2) (by omega) ⟨g3, by rw [Int.add_zero]; exact z3', fun _ _ => rfl, fun k k0 k1 => by omega⟩ (fun m t m0 m1 ⟨g4, c1, c2, c3⟩ => ?_) (fun t ⟨g4, c1, c2, c3⟩ => ?_)
    · show jE (b_X26_write_252 t R b _ (b + 1) 3 x (vsg b x) m) _
      unfold b_X26_write_252
      have H := h.fx c1.1
      obtain ⟨-, -, s3, ⟨s4, s5⟩, u1, u2, u3, u4⟩ := H.sg x0 x1
      obtain ⟨a1, a2, a3, a4⟩ := (H.2.2.1.1 x x0 x1).2 c
      have hb := vv.2.2.2.2.2.2 m m0 m1
      have hl : jld t 1001 (vsg b x + 1) m = some (jf t 1001 (vsg b x + 1) m) := by
        unfold jld; exact if_pos ⟨u2, u3, m0, by rw [u4]; omega⟩
      rw [jrd_in s4 s5, Option.bind_some, a2, if_pos m1, jrd_in s4 s5, Option.bind_some, u1, hl, Option.bind_some, a4 m m0 m1]
      refine jS_call (i_p1 c1.2 (by omega) _) fun q ⟨k9, w9⟩ => ?_
      rw [W32_in (by omega) (by omega)]
      refine jS_end ⟨rfl, _, by rw [show bI i x + (m + 1) = bI i x + m + 1 by omega]; exact c1.nx k9 w9, fun y hy => by rw [gN_lo (by omega)]; exact c2 y hy, fun k k0 k1 => ?_⟩
      by_cases ck : k = m
      · rw [ck, gN_1, sb_mod hb.1 hb.2]
      · rw [gN_lo (by omega)]; exact c3 k k0 (by omega)
    · show jE (b_X26_write_252 t R b _ (b + 1) 3 x (vsg b x) (i 1 x 2)) _
      unfold b_X26_write_252
      have H := h.fx c1.1
      obtain ⟨-, -, s3, ⟨s4, s5⟩, -⟩ := H.sg x0 x1
      obtain ⟨a1, a2, a3, a4⟩ := (H.2.2.1.1 x x0 x1).2 c
      rw [jrd_in s4 s5, Option.bind_some, a2, if_neg (by omega), eu_X26_write_283]; unfold du_X26_write_283
      rw [e286 _ _ (by rw [W32_in (by omega) (by omega), rx]; omega)]
      have F : ∀ y, y < eI i x → ¬ (52 + 32 * rI i x + 4 ≤ y ∧ y < 52 + 32 * rI i x + 8) → g4 y = g1 y := fun y hy hn => (c2 y (by omega)).trans (f1 y hy hn)
      refine jS_inr (jS_end ⟨rfl, g4, by rw [bl.2.2]; exact c1, z2.of fun k hk => F k (by omega) (by omega), fun y y0 y1 cy => ?_, fun y y0 y1 cy => ?_, z5.of fun k k0 k1 => F k (by omega) (by omega)⟩)
      · by_cases qy : y = x
        · subst qy
          exact ⟨f3.of fun k k0 k1 => c2 k (by omega), fun k k0 k1 => by rw [c2 k k1]; exact f2 k k0 k1, c3⟩
        · obtain ⟨w1, w2⟩ := z3 y y0 (by omega) cy
          have ry := rI_m vi y0 (show y < x by omega) (by omega)
          have vy0 := (vi.1 y y0 (by omega)).1
          have ey := eI_m vi (show 0 ≤ y + 1 by omega) (show y + 1 ≤ x by omega) (by omega)
          have by' := bI_lo vi y0 (by omega) cy
          have vy := (vi.1 y y0 (by omega)).2 cy
          have ey0 := eI_lo vi y0 (show y ≤ 3 by omega)
          exact ⟨w1.of fun k k0 k1 => F k (by omega) (by omega), w2.of vy.2.2.1 by'.1 fun k k0 k1 => F k (by omega) (by omega)⟩
      · have ry := rI_m vi x0 (show x < y by omega) (by omega)
        have ry3 := rI_m vi (show 0 ≤ y by omega) (show y < 3 by omega) (Int.le_refl 3)
        have vy0 := (vi.1 y (by omega) y1).1
        exact (z4 y (by omega) y1 cy).of fun k k0 k1 => F k (by omega) (by omega)
  · show jE (b_X26_write_171 t R b (52 + 32 * rI i 3) (b + 1) 3 3) _
    unfold b_X26_write_171
    rw [if_neg (by omega)]
    exact jS_inr (cont t g1 z1 z2 (fun x x0 x1 c => z3 x x0 x1 c) z5)
/-- all of it -/
theorem i_wall (h : iV s R b i) : jE (m_X26_write s R b) fun q => q.2 = (if 16384 < ttI i then 0 else 1) ∧ ∃ g, iZ s q.1 R g (ttI i) ∧ pIm i g := by
  have J : ∀ {v : Int}, -2147483648 ≤ v → v ≤ 2147483647 → jin v := fun a b => ⟨a, b⟩
  have vi := h.2.2.2.2.1
  have pg := vi.2.2.1.lo
  obtain ⟨s1, s2, -⟩ := h.sg (x := 0) (by omega) (by omega)
  obtain ⟨r0, r1, -, -⟩ := rI_lo vi (x := 3) (by omega) (by omega)
  obtain ⟨n1, n2, n3⟩ := i_nsize h
  rw [em_X26_write]; unfold dm_X26_write
  rw [s1, Option.bind_some, s2, Option.bind_some, eu_X26_write_14]; unfold du_X26_write_14
  have cnt := jforW (C := jc6 b_X26_write_14) (fun x => [R, b, 1 + rI i x, b + 1, 3, x]) (fun _ => s) 0 3 (by omega) (fun x x0 x1 => by
      show b_X26_write_14 s R b (1 + rI i x) (b + 1) 3 x = _
      unfold b_X26_write_14
      obtain ⟨-, -, s3, ⟨s4, s5⟩, -⟩ := h.sg x0 x1
      obtain ⟨q1, q2, q3, q4⟩ := rI_lo vi x0 (show x ≤ 3 by omega)
      have v0 := (vi.1 x x0 x1).1
      have e41 : ∀ v, 0 ≤ v → v ≤ 1 → u_X26_write_41 s R b (b + 1) 3 x v (1 + rI i x) = some (.inl (s, [R, b, 1 + rI i x + v, b + 1, 3, x + 1])) := fun v a0 a1 => by
        rw [eu_X26_write_41]; unfold du_X26_write_41
        simp only [jlet]
        rw [W32_in (z := 1 + rI i x + v) (by omega) (by omega), W32_in (by omega) (by omega)]
      rw [if_pos x1, s3, Option.bind_some, jrd_in s4 s5, Option.bind_some, (h.2.2.1.1 x x0 x1).1, e41 0 (by omega) (by omega), e41 1 (by omega) (by omega), q4 x1]
      by_cases c : i 1 x 0 = 0
      · rw [if_pos c, c, Int.add_assoc]
      · rw [if_neg c, show i 1 x 0 = 1 by omega, Int.add_assoc]) (r := u_X26_write_49 s R b (1 + rI i 3)) (by
      show b_X26_write_14 s R b (1 + rI i 3) (b + 1) 3 3 = _
      unfold b_X26_write_14
      rw [if_neg (by omega)])
  rw [show (1 : Int) + rI i 0 = 1 from rfl] at cnt
  rw [cnt, eu_X26_write_49]; unfold du_X26_write_49
  simp only [jls]
  have k0 : jFx s (jp s 29 (R + 1) 1 0) R 4 := jFx.rfl.jp rfl (by omega) (by omega)
  have Z0 : iZ s (jp s 29 (R + 1) 1 0) R (fun _ => 0) 0 := ⟨k0, by (repeat (first | rw [jf_neg (by omega)] | rw [jf_pos (by omega)] | rw [ou_neg (by omega)] | rw [ou_pos (by omega)])), by omega, fun k a0 a1 => by omega⟩
  refine jS_call (i_whead h Z0 (by omega)) fun q ⟨g1, z1, z2⟩ => ?_
  obtain ⟨s1', s2', -⟩ := (h.fx z1.1).sg (x := 0) (by omega) (by omega)
  rw [s1', Option.bind_some, s2', Option.bind_some]
  refine i_wrows h z1 z2 fun t g2 z3 z4 z5 => ?_
  rw [eu_X26_write_140]; unfold du_X26_write_140
  rw [(i_nsize (h.fx z3.1)).1, Option.bind_some]
  refine jS_call (i_wrow z3.2 (by omega) (J (by omega) (by omega)) (J (by omega) (by omega)) (J (by omega) (by omega)) (J (by omega) (by omega)) (J (by omega) (by omega)) (J (by omega) (by omega))) fun q ⟨k1, g3, w1, w2, w3⟩ => ?_
  have z6 := z3.nx k1 w1
  obtain ⟨s1'', s2'', -⟩ := (h.fx z6.1).sg (x := 0) (by omega) (by omega)
  rw [s1'', Option.bind_some, s2'', Option.bind_some]
  have e0 : eI i 0 = 52 + 32 * rI i 3 + 32 := by show 52 + 32 * (rI i 3 + 1) = _; omega
  rw [← e0] at z6
  refine i_wareas h z6 (z4.of fun k hk => w2 k (by omega)) (fun x x0 x1 c => (z5 x x0 x1 c).of fun k k0 k1 => w2 k (by have := rI_m vi x0 (show x < 3 by omega) (Int.le_refl 3); have := (vi.1 x x0 x1).1; omega)) w3 fun t2 g4 y1 y2 y3 y4 => ?_
  have el := eI_lo vi (x := 3) (by omega) (by omega)
  have u4 : eI i 3 ≤ ntI i ∧ ntI i < eI i 3 + 4 ∧ ntI i % 4 = 0 := by unfold ntI up4; omega
  rw [eu_X26_write_292]; unfold du_X26_write_292
  refine jS_for (fun k t => ∃ g', iZ s t R g' k ∧ (∀ y, y < eI i 3 → g' y = g4 y) ∧ ∀ y, eI i 3 ≤ y → y < k → g' y = 0) (fun k => [R, b, 52 + 32 * rI i 3]) (eI i 3) (ntI i) u4.1 ⟨g4, y1, fun _ _ => rfl, fun y a0 a1 => by omega⟩ (fun k t k0 k1 ⟨g5, d1, d2, d3⟩ => ?_) (fun t ⟨g5, d1, d2, d3⟩ => ?_)
  · show jE (b_X26_write_292 t R b _) _
    unfold b_X26_write_292
    rw [d1.2.1, jdv_in (by decide), Option.bind_some, I_rem_n (by omega) (by omega) (by omega) (by omega), if_neg (by omega)]
    refine jS_call (i_p1 d1.2 (by omega) 0) fun q ⟨k9, w9⟩ => jS_end ⟨rfl, _, d1.nx k9 w9, fun y hy => by rw [gN_lo (by omega)]; exact d2 y hy, fun y y0 y1 => ?_⟩
    by_cases cy : y = k
    · rw [cy, gN_1]; rfl
    · rw [gN_lo (by omega)]; exact d3 y y0 (by omega)
  show jE (b_X26_write_292 t R b _) _
  unfold b_X26_write_292
  rw [d1.2.1, jdv_in (by decide), Option.bind_some, I_rem_n (by omega) (by omega) (by omega) (by omega), if_pos u4.2.2, eu_X26_write_315]; unfold du_X26_write_315
  rw [d1.2.1, W32_in (z := 52 + 32 * rI i 3 + 4) (by omega) (by omega)]
  refine jS_inr (jS_call (i_s4' d1.2 (J (by omega) (by omega)) (by omega) (by omega) (by omega)) fun q ⟨k3, w4⟩ => ?_)
  have x1 := d1.nx k3 w4
  refine jS_call (i_wnote h x1 (by omega) (by omega) u4.2.2) fun q' ⟨g6, x2, x3, x4⟩ => ?_
  rw [x2.2.1, show ntI i + nlI i = ttI i from rfl, Wz_0, Wz_1]
  have G : ∀ y, y < eI i 3 → ¬ (52 + 32 * rI i 3 + 4 ≤ y ∧ y < 52 + 32 * rI i 3 + 8) → g6 y = g4 y := fun y hy hn => by rw [x3 y (by omega), gN_lo (by omega)]; exact d2 y hy
  have P : pIm i g6 := by
    refine ⟨y2.of fun k hk => G k (by omega) (by omega), fun x x0 x1 c => ?_, ?_, ?_, x4⟩
    · obtain ⟨a1, a2⟩ := y3 x x0 x1 c
      have rm := rI_m vi x0 (show x < 3 by omega) (Int.le_refl 3)
      have v0 := (vi.1 x x0 x1).1
      have bl := bI_lo vi x0 x1 c
      have em := eI_m vi (show 0 ≤ x + 1 by omega) (show x + 1 ≤ 3 by omega) (Int.le_refl 3)
      have ex := eI_lo vi x0 (show x ≤ 3 by omega)
      have vv := (vi.1 x x0 x1).2 c
      exact ⟨a1.of fun k k0 k1 => G k (by omega) (by omega), a2.of vv.2.2.1 bl.1 fun k k0 k1 => G k (by omega) (by omega)⟩
    · exact ((y4.of fun k k0 k1 => d2 k (by omega)).at1 (b' := ntI i)).of fun k k0 k1 => x3 k (by omega)
    · exact fun k k0 k1 => by rw [x3 k k1, gN_lo (by omega)]; exact d3 k k0 k1
  by_cases c : 16384 < ttI i
  · rw [if_pos c]; exact jS_end ⟨by rw [if_pos c], g6, x2, P⟩
  · rw [if_neg c]; exact jS_end ⟨by rw [if_neg c], g6, x2, P⟩
end jIwrite4
