/-! writing an image: the twin's numbers, rows, sum -/
section jSwrite2
variable {s t u w : jS} {X n p f a b x y e k v z m d r : Int} {g g' : Int → Int} {i : Int → Int → Int → Int}
/-- the file alone is changed -/
def sFl (s t : jS) (X : Int) : Prop := jSm s t ∧ ∀ c a k, ¬ (c = 1000 ∧ a = X + 9) → jf t c a k = jf s c a k
theorem sFl.rfl : sFl s s X := ⟨jSm.rfl, fun _ _ _ _ => Eq.refl _⟩
theorem sFl.trans (h : sFl s t X) (g : sFl t u X) : sFl s u X := ⟨h.1.trans g.1, fun c a k p => (g.2 c a k p).trans (h.2 c a k p)⟩
theorem sFl.jp {k v : Int} (h : sFl s t X) : sFl s (jp t 1000 (X + 9) k v) X := ⟨h.1.jp, fun c' a' k' p => by rw [jf_jp, if_neg (by omega)]; exact h.2 c' a' k' p⟩
/-- what the file holds -/
def sF (t : jS) (X : Int) (g : Int → Int) : Prop := ∀ k, jf t 1000 (X + 9) k = g k
theorem s_w2 (h : sF u X g) (p0 : 0 ≤ p) (p1 : p + 1 < 16384) (hv : jin v) : jE (m_X42_write2 u X p v) fun q => sFl u q.1 X ∧ sF q.1 X (gNb g p 2 v) := by
  have hv := jin_p.mp hv
  rw [em_X42_write2]; unfold dm_X42_write2
  rw [jst_in p0 (by omega), Option.bind_some, W32_in (by omega) (by omega), jst_in (by omega) p1, Option.bind_some, I_and_255, I_and_255, i_shr_p (by omega) (by omega) (by omega)]
  refine jS_end ⟨sFl.rfl.jp.jp, fun k => ?_⟩
  by_cases c1 : k = p + 1
  · rw [jf_pos ⟨rfl, rfl, c1⟩, c1, gN_2.2]; rfl
  · rw [jf_neg (by omega)]
    by_cases c2 : k = p
    · rw [jf_pos ⟨rfl, rfl, c2⟩, c2, gN_2.1]
    · rw [jf_neg (by omega), gN_lo (by omega)]; exact h k
theorem s_w4 (h : sF u X g) (p0 : 0 ≤ p) (p1 : p + 3 < 16384) (hv : jin v) : jE (m_X42_write4 u X p v) fun q => sFl u q.1 X ∧ sF q.1 X (gNb g p 4 v) := by
  have hv' := jin_p.mp hv
  have e16 : I_shr v 16 = v / 65536 := i_shr_p (by omega) (by omega) (by omega)
  rw [em_X42_write4]; unfold dm_X42_write4
  refine jS_call (s_w2 h p0 (by omega) hv) fun q1 ⟨k1, w1⟩ => ?_
  rw [W32_in (z := p + 2) (by omega) (by omega), e16]
  refine jS_call (s_w2 w1 (by omega) (by omega) (v := v / 65536) ⟨by omega, by omega⟩) fun q2 ⟨k2, w2⟩ => jS_end ⟨k1.trans k2, fun k => ?_⟩
  rw [w2 k]
  have a2 := gN_2 (g := gNb g p 2 v) (p := p + 2) (v := v / 65536)
  have b2 := gN_2 (g := g) (p := p) (v := v)
  have a4 := gN_4 (g := g) (p := p) (v := v)
  obtain ⟨z1, z2⟩ := a2
  obtain ⟨y1, y2⟩ := b2
  obtain ⟨x1, x2, x3, x4⟩ := a4
  by_cases c3 : k = p + 3
  · subst c3
    rw [x4, show p + 3 = p + 2 + 1 by omega, z2]; omega
  by_cases c2 : k = p + 2
  · subst c2
    rw [x3, z1]
  by_cases c1 : k = p + 1
  · subst c1
    rw [x2, gN_lo (by omega), y2]
  by_cases c0 : k = p
  · subst c0
    rw [x1, gN_lo (by omega), y1]
  · rw [gN_lo (by omega), gN_lo (by omega), gN_lo (by omega)]
theorem s_wrow {a b c d e f h : Int} (hF : sF u X g) (p0 : 0 ≤ p) (p1 : p + 32 ≤ 16384) (ha : jin a) (hb : jin b) (hc : jin c) (hd : jin d) (he : jin e) (hf : jin f) (hh : jin h) : jE (m_X42_writeRow u X p a b c d e f h) fun q => sFl u q.1 X ∧ ∃ g', sF q.1 X g' ∧ (∀ k, k < p ∨ p + 32 ≤ k → g' k = g k) ∧ pRw g' p a b c d e f h := by
  rw [em_X42_writeRow]; unfold dm_X42_writeRow
  rw [W32_in (z := p + 4) (by omega) (by omega), W32_in (z := p + 8) (by omega) (by omega), W32_in (z := p + 12) (by omega) (by omega), W32_in (z := p + 16) (by omega) (by omega), W32_in (z := p + 20) (by omega) (by omega), W32_in (z := p + 24) (by omega) (by omega), W32_in (z := p + 28) (by omega) (by omega)]
  refine jS_call (s_w4 hF (by omega) (by omega) ha) fun q1 ⟨k1, w1⟩ => jS_call (s_w4 w1 (by omega) (by omega) hb) fun q2 ⟨k2, w2⟩ => jS_call (s_w4 w2 (by omega) (by omega) hc) fun q3 ⟨k3, w3⟩ => jS_call (s_w4 w3 (by omega) (by omega) hc) fun q4 ⟨k4, w4⟩ => jS_call (s_w4 w4 (by omega) (by omega) hd) fun q5 ⟨k5, w5⟩ => jS_call (s_w4 w5 (by omega) (by omega) he) fun q6 ⟨k6, w6⟩ => jS_call (s_w4 w6 (by omega) (by omega) hf) fun q7 ⟨k7, w7⟩ => jS_call (s_w4 w7 (by omega) (by omega) hh) fun q8 ⟨k8, w8⟩ => ?_
  refine jS_end ⟨k1.trans (k2.trans (k3.trans (k4.trans (k5.trans (k6.trans (k7.trans k8)))))), _, w8, fun k hk => ?_, ?_, ?_, ?_, ?_, ?_, ?_, ?_, ?_⟩
  · rw [gN_lo (by omega), gN_lo (by omega), gN_lo (by omega), gN_lo (by omega), gN_lo (by omega), gN_lo (by omega), gN_lo (by omega), gN_lo (by omega)]
  all_goals (repeat (first | exact gN_4 | refine B4.gn ?_ (by omega)))
/-- parts of an image -/
theorem tIm.su (h : tIm u X r i) (k : sSu u t X v) : tIm t X r i := by
  obtain ⟨h1, h2, h3, h4⟩ := h
  refine ⟨fun x x0 x1 => ?_, by rw [k.2.2 _ _ _ (by omega)]; exact h2, by rw [k.2.2 _ _ _ (by omega)]; exact h3, fun k' k0 k1 => by rw [k.2.2 _ _ _ (by omega)]; exact h4 k' k0 k1⟩
  obtain ⟨f1, f2⟩ := h1 x x0 x1
  exact ⟨by rw [k.2.2 _ _ _ (by omega)]; exact f1, fun q => by
    obtain ⟨f3, f4, f5, f6⟩ := f2 q
    exact ⟨by rw [k.2.2 _ _ _ (by omega)]; exact f3, by rw [k.2.2 _ _ _ (by omega)]; exact f4, by rw [k.2.2 _ _ _ (by omega)]; exact f5, fun k' k0 k1 => by rw [k.2.2 _ _ _ (by omega)]; exact f6 k' k0 k1⟩⟩
theorem s_markBytes (h : tIm u X r i) (vi : vIm i) (r0 : 0 ≤ r) (r1 : r < 2) : m_X42_markBytes u X r = some (mkN i) ∧ 0 ≤ mkN i ∧ mkN i ≤ 256 := by
  obtain ⟨h1, h2⟩ := h.1 0 (by omega) (by omega)
  rw [Int.add_zero] at h1 h2
  rw [em_X42_markBytes]; unfold dm_X42_markBytes mkN
  rw [W32_in (z := 3 * r) (by omega) (by omega), jlt_in (by omega) (by omega), Option.bind_some, h1]
  by_cases c : i 1 0 0 = 0
  · rw [if_pos c, if_pos c]; exact ⟨rfl, by omega, by omega⟩
  · obtain ⟨a1, a2, -⟩ := h2 c
    have vv := (vi.1 0 (by omega) (by omega)).2 c
    rw [if_neg c, if_neg c, jlt_in (by omega) (by omega), Option.bind_some, a2, jdv_in (by decide), Option.bind_some, W32_in (by omega) (by omega), I_div_n (by omega) (by omega) (by omega) (by omega)]
    exact ⟨rfl, by omega, by omega⟩
theorem s_markByte (h : tIm u X r i) (vi : vIm i) (r0 : 0 ≤ r) (r1 : r < 2) (k0 : 0 ≤ k) (k1 : k < 256) : m_X42_markByte u X r k = some (mkB (fun k => i 3 k 0) k) := by
  rw [em_X42_markByte]; unfold dm_X42_markByte
  rw [eu_X42_markByte_5]; unfold du_X42_markByte_5
  refine jforR (fun m => [X, r, k, mkP (fun k => i 3 k 0) k m.toNat, m]) 0 8 (by omega) (fun m m0 m1 => ?_) ?_
  · show b_X42_markByte_5 u X r k _ m = _
    unfold b_X42_markByte_5
    have h3 := h.2.2.2 (8 * k + m) (by omega) (by omega)
    have v3 := vi.2.2.2 (8 * k + m) (by omega) (by omega)
    have hp := mkP_lo (F := fun k => i 3 k 0) vi.2.2.2 k0 k1 m.toNat (by omega)
    have os := or_st m0 m1 hp.1 hp.2 v3
    have e1 : mkP (fun k => i 3 k 0) k (m + 1).toNat = mkP (fun k => i 3 k 0) k m.toNat + i 3 (8 * k + m) 0 * 2 ^ m.toNat := by
      rw [show (m + 1).toNat = m.toNat + 1 by omega]
      show mkP (fun k => i 3 k 0) k m.toNat + i 3 (8 * k + (m.toNat : Nat)) 0 * 2 ^ m.toNat = _
      rw [nt m0]
    have e256 : mkP (fun k => i 3 k 0) k (m + 1).toNat < 256 := by
      have hq := mkP_lo (F := fun k => i 3 k 0) vi.2.2.2 k0 k1 (m + 1).toNat (by omega)
      have : (2 : Int) ^ (m + 1).toNat ≤ 256 := by
        have : m = 0 ∨ m = 1 ∨ m = 2 ∨ m = 3 ∨ m = 4 ∨ m = 5 ∨ m = 6 ∨ m = 7 := by omega
        rcases this with e | e | e | e | e | e | e | e <;> subst e <;> decide
      omega
    have esh : I_shl 1 m = 2 ^ m.toNat := by
      rw [i_shl_p (by omega) (by omega), Int.one_mul]
      have : m = 0 ∨ m = 1 ∨ m = 2 ∨ m = 3 ∨ m = 4 ∨ m = 5 ∨ m = 6 ∨ m = 7 := by omega
      rcases this with e | e | e | e | e | e | e | e <;> subst e <;> exact W32_in (by decide) (by decide)
    have e42 : ∀ y, mkP (fun k => i 3 k 0) k m.toNat + y = mkP (fun k => i 3 k 0) k (m + 1).toNat → u_X42_markByte_42 u X r k m y (mkP (fun k => i 3 k 0) k m.toNat) = some (.inl [X, r, k, mkP (fun k => i 3 k 0) k (m + 1).toNat, m + 1]) := fun y hy => by
      rw [eu_X42_markByte_42]; unfold du_X42_markByte_42
      simp only [jlet]
      have hq := mkP_lo (F := fun k => i 3 k 0) vi.2.2.2 k0 k1 (m + 1).toNat (by omega)
      rw [hy, W32_in (z := mkP (fun k => i 3 k 0) k (m + 1).toNat) (by omega) (by omega), W32_in (by omega) (by omega)]
    rw [if_pos m1, W32_in (z := 2048 * r) (by omega) (by omega), W32_in (z := 8 * k) (by omega) (by omega), W32_in (z := 2048 * r + 8 * k) (by omega) (by omega), W32_in (z := 2048 * r + 8 * k + m) (by omega) (by omega), show 2048 * r + 8 * k + m = 2048 * r + (8 * k + m) by omega, jlt_in (by omega) (by omega), Option.bind_some, h3]
    by_cases c : i 3 (8 * k + m) 0 = 0
    · rw [if_pos c, e42 0 (by rw [e1, c, Int.zero_mul])]
    · rw [if_neg c, e42 _ (by rw [e1, esh, v3.resolve_left c, Int.one_mul])]
  · show b_X42_markByte_5 u X r k _ 8 = _
    unfold b_X42_markByte_5
    rw [if_neg (by omega), show mkP (fun k => i 3 k 0) k (8 : Int).toNat = mkB (fun k => i 3 k 0) k from mkP_8]
theorem s_sumOf (h : tIm u X r i) (vi : vIm i) (r0 : 0 ≤ r) (r1 : r < 2) : jE (m_X42_sumOf u X r) fun q => q.2 = sumI i ∧ ∃ v, sSu u q.1 X v := by
  rw [em_X42_sumOf]; unfold dm_X42_sumOf
  simp only [jls]
  have k0 : sSu u (jp u 46 X 15 (-1)) X (-1) := sSu.rfl.jp
  have h0 := h.su k0
  generalize jp u 46 X 15 (-1) = t0 at k0 h0 ⊢
  rw [jlt_in r0 r1, Option.bind_some, h0.2.1]
  refine jS_call s_addN fun q hq => ?_
  have k1 := k0.then hq
  rw [k0.2.1] at k1
  generalize q.1 = t1 at k1 ⊢
  clear hq
  simp only [jlet]
  rw [W32_in (z := 3 * r) (by omega) (by omega), eu_X42_sumOf_19]; unfold du_X42_sumOf_19
  have k1' : sSu u t1 X (if (0 : Int) = 0 then crN (-1) (i 2 0 0) else if (0 : Int) = 1 then crG i 0 (crN (-1) (i 2 0 0)) else if (0 : Int) = 2 then crG i 1 (crG i 0 (crN (-1) (i 2 0 0))) else crG i 2 (crG i 1 (crG i 0 (crN (-1) (i 2 0 0))))) := k1
  have V0 : ([X, r, 3 * r] : List Int) = (fun x => [X, r, 3 * r + x]) 0 := by show [X, r, 3 * r] = [X, r, 3 * r + 0]; rw [Int.add_zero]
  rw [V0]
  refine jS_for (fun x t => sSu u t X (if x = 0 then crN (-1) (i 2 0 0) else if x = 1 then crG i 0 (crN (-1) (i 2 0 0)) else if x = 2 then crG i 1 (crG i 0 (crN (-1) (i 2 0 0))) else crG i 2 (crG i 1 (crG i 0 (crN (-1) (i 2 0 0)))))) (fun x => [X, r, 3 * r + x]) 0 3 (by omega) k1' (fun x t x0 x1 ht => ?_) (fun t ht => ?_)
  · show jE (b_X42_sumOf_19 t X r (3 * r + x)) _
    unfold b_X42_sumOf_19
    have H := h.su ht
    have hx := H.1 x x0 x1
    have e94 : ∀ t, u_X42_sumOf_94 t X r (3 * r + x) = some (.inl (t, [X, r, 3 * r + (x + 1)])) := fun t => by
      rw [eu_X42_sumOf_94]; unfold du_X42_sumOf_94
      rw [W32_in (by omega) (by omega), Int.add_assoc]
    generalize hC : (if x = 0 then crN (-1) (i 2 0 0) else if x = 1 then crG i 0 (crN (-1) (i 2 0 0)) else if x = 2 then crG i 1 (crG i 0 (crN (-1) (i 2 0 0))) else crG i 2 (crG i 1 (crG i 0 (crN (-1) (i 2 0 0))))) = K at ht
    have nx : (if x + 1 = 0 then crN (-1) (i 2 0 0) else if x + 1 = 1 then crG i 0 (crN (-1) (i 2 0 0)) else if x + 1 = 2 then crG i 1 (crG i 0 (crN (-1) (i 2 0 0))) else crG i 2 (crG i 1 (crG i 0 (crN (-1) (i 2 0 0))))) = crG i x K := by
      have : x = 0 ∨ x = 1 ∨ x = 2 := by omega
      rcases this with e | e | e <;> subst e <;> rw [← hC] <;> rfl
    rw [nx, W32_in (z := 3 * r) (by omega) (by omega), W32_in (z := 3 * r + 3) (by omega) (by omega), if_pos (by omega), jlt_in (by omega) (by omega), Option.bind_some, hx.1]
    unfold crG
    by_cases c : i 1 x 0 = 0
    · rw [if_pos c, if_pos c, e94]; exact jS_end ⟨rfl, ht⟩
    · rw [if_neg c, if_neg c]
      obtain ⟨a1, a2, a3, a4⟩ := hx.2 c
      have vv := (vi.1 x x0 x1).2 c
      rw [jlt_in (by omega) (by omega), Option.bind_some, a1]
      refine jS_call s_addN fun q hq => ?_
      have k2 := ht.then hq
      rw [ht.2.1] at k2
      have H2 := h.su k2
      obtain ⟨b1, b2, b3, b4⟩ := (H2.1 x x0 x1).2 c
      generalize q.1 = t2 at k2 H2 b1 b2 b3 b4 ⊢
      rw [jlt_in (by omega) (by omega), Option.bind_some, b3]
      refine jS_call s_addN fun q hq => ?_
      have k3 := k2.then hq
      rw [k2.2.1] at k3
      generalize q.1 = t3 at k3 ⊢
      rw [eu_X42_sumOf_62]; unfold du_X42_sumOf_62
      refine jS_for (fun m t => sSu u t X (crF (fun k => i 0 x k) m.toNat (crN (crN K (i 1 x 1)) (i 1 x 3)))) (fun m => [X, r, 3 * r + x, m]) 0 (i 1 x 2) (by omega) k3 (fun m t m0 m1 ht => ?_) (fun t ht => ?_)
      · show jE (b_X42_sumOf_62 t X r (3 * r + x) m) _
        unfold b_X42_sumOf_62
        obtain ⟨b1, b2, b3, b4⟩ := ((h.su ht).1 x x0 x1).2 c
        rw [jlt_in (by omega) (by omega), Option.bind_some, b2, if_pos m1, W32_in (z := 4096 * (3 * r + x)) (by omega) (by omega), W32_in (z := 4096 * (3 * r + x) + m) (by omega) (by omega), jlt_in (by omega) (by omega), Option.bind_some, b4 m m0 m1]
        refine jS_call s_add fun q hq => ?_
        rw [W32_in (by omega) (by omega), show (m + 1).toNat = m.toNat + 1 by omega]
        refine jS_end ⟨rfl, ?_⟩
        rw [show crF (fun k => i 0 x k) (m.toNat + 1) (crN (crN K (i 1 x 1)) (i 1 x 3)) = crB (crF (fun k => i 0 x k) m.toNat (crN (crN K (i 1 x 1)) (i 1 x 3))) (i 0 x (m.toNat : Nat)) from rfl, nt m0, ← ht.2.1]
        exact ht.then hq
      · show jE (b_X42_sumOf_62 t X r (3 * r + x) (i 1 x 2)) _
        unfold b_X42_sumOf_62
        obtain ⟨b1, b2, b3, b4⟩ := ((h.su ht).1 x x0 x1).2 c
        rw [jlt_in (by omega) (by omega), Option.bind_some, b2, if_neg (by omega), e94]
        exact jS_inr (jS_end ⟨rfl, ht⟩)
  · show jE (b_X42_sumOf_19 t X r (3 * r + 3)) _
    unfold b_X42_sumOf_19
    rw [W32_in (z := 3 * r) (by omega) (by omega), W32_in (z := 3 * r + 3) (by omega) (by omega), if_neg (by omega), eu_X42_sumOf_100]; unfold du_X42_sumOf_100
    refine jS_inr ?_
    have ht : sSu u t X (crG i 2 (crG i 1 (crG i 0 (crN (-1) (i 2 0 0))))) := ht
    unfold sumI
    generalize crG i 2 (crG i 1 (crG i 0 (crN (-1) (i 2 0 0)))) = K at ht ⊢
    obtain ⟨m1, m2, m3⟩ := s_markBytes (h.su ht) vi r0 r1
    rw [m1, Option.bind_some, eu_X42_sumOf_108]; unfold du_X42_sumOf_108
    refine jS_for (fun m t => sSu u t X (crF (mkB fun k => i 3 k 0) m.toNat K)) (fun m => [X, r, mkN i, m]) 0 (mkN i) m2 ht (fun m t m0 m1 ht => ?_) (fun t ht => ?_)
    · show jE (b_X42_sumOf_108 t X r (mkN i) m) _
      unfold b_X42_sumOf_108
      rw [if_pos m1, s_markByte (h.su ht) vi r0 r1 m0 (by omega), Option.bind_some]
      refine jS_call s_add fun q hq => ?_
      rw [W32_in (by omega) (by omega), show (m + 1).toNat = m.toNat + 1 by omega]
      refine jS_end ⟨rfl, ?_⟩
      rw [show crF (mkB fun k => i 3 k 0) (m.toNat + 1) K = crB (crF (mkB fun k => i 3 k 0) m.toNat K) (mkB (fun k => i 3 k 0) (m.toNat : Nat)) from rfl, nt m0, ← ht.2.1]
      exact ht.then hq
    · show jE (b_X42_sumOf_108 t X r (mkN i) (mkN i)) _
      unfold b_X42_sumOf_108
      rw [if_neg (by omega), eu_X42_sumOf_129]; unfold du_X42_sumOf_129
      exact jS_inr (jS_end ⟨by rw [ht.2.1], _, ht⟩)
end jSwrite2
