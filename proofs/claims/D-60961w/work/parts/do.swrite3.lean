/-! writing an image: the twin's file -/
section jSwrite3
variable {s t u w : jS} {X n p f a b x y e k v z m d r : Int} {g g' : Int → Int} {i : Int → Int → Int → Int} {Q : jS × Int → Prop}
/-- what a writing changes -/
def sWt (s t : jS) (X : Int) : Prop := jSm s t ∧ ∀ c a k, ¬ (c = 1000 ∧ (a = X + 9 ∨ a = X + 11)) → ¬ (c = 46 ∧ a = X ∧ (k = 9 ∨ k = 15)) → jf t c a k = jf s c a k
theorem sWt.rfl : sWt s s X := ⟨jSm.rfl, fun _ _ _ _ _ => Eq.refl _⟩
theorem sWt.trans (h : sWt s t X) (g : sWt t u X) : sWt s u X := ⟨h.1.trans g.1, fun c a k p q => (g.2 c a k p q).trans (h.2 c a k p q)⟩
theorem sFl.wt (h : sFl s t X) : sWt s t X := ⟨h.1, fun c a k p _ => h.2 c a k (by omega)⟩
theorem sSu.wt (h : sSu s t X v) : sWt s t X := ⟨h.1, fun c a k _ q => h.2.2 c a k (by omega)⟩
theorem tIm.wt (h : tIm u X r i) (k : sWt u t X) : tIm t X r i := by
  obtain ⟨h1, h2, h3, h4⟩ := h
  refine ⟨fun x x0 x1 => ?_, by rw [k.2 _ _ _ (by omega) (by omega)]; exact h2, by rw [k.2 _ _ _ (by omega) (by omega)]; exact h3, fun k' k0 k1 => by rw [k.2 _ _ _ (by omega) (by omega)]; exact h4 k' k0 k1⟩
  obtain ⟨f1, f2⟩ := h1 x x0 x1
  exact ⟨by rw [k.2 _ _ _ (by omega) (by omega)]; exact f1, fun q => by
    obtain ⟨f3, f4, f5, f6⟩ := f2 q
    exact ⟨by rw [k.2 _ _ _ (by omega) (by omega)]; exact f3, by rw [k.2 _ _ _ (by omega) (by omega)]; exact f4, by rw [k.2 _ _ _ (by omega) (by omega)]; exact f5, fun k' k0 k1 => by rw [k.2 _ _ _ (by omega) (by omega)]; exact f6 k' k0 k1⟩⟩
/-- offsets and size are told -/
def oF (t : jS) (X : Int) (i : Int → Int → Int → Int) : Prop := (∀ x, 0 ≤ x → x < 3 → ¬ i 1 x 0 = 0 → jf t 1000 (X + 11) x = bI i x) ∧ jf t 46 X 9 = ttI i
theorem oF.fl (h : oF u X i) (k : sFl u t X) : oF t X i := ⟨fun x x0 x1 c => by rw [k.2 _ _ _ (by omega)]; exact h.1 x x0 x1 c, by rw [k.2 _ _ _ (by omega)]; exact h.2⟩
theorem oF.su (h : oF u X i) (k : sSu u t X v) : oF t X i := ⟨fun x x0 x1 c => by rw [k.2.2 _ _ _ (by omega)]; exact h.1 x x0 x1 c, by rw [k.2.2 _ _ _ (by omega)]; exact h.2⟩
theorem s_shorts (h : tIm u X 0 i) (vi : vIm i) (c : ¬ i 1 0 0 = 0) (hT : i 1 0 2 % 2 = 0) (gm : ∀ k, 0 ≤ k → k < 2048 → gmI i k) : m_X42_shortsIn u X 0 = some (cn (ctI i 1) (i 1 0 2 / 2)) := by
  have vv := (vi.1 0 (by omega) (by omega)).2 c
  have hcn := fun k k0 => cn_lo (P := ctI i 1) (x := k) k0
  rw [em_X42_shortsIn]; unfold dm_X42_shortsIn
  rw [eu_X42_shortsIn_4]; unfold du_X42_shortsIn_4
  have := jforR (C := jc4 b_X42_shortsIn_4) (s := u) (fun k => [X, 0, cn (ctI i 1) (if k ≤ i 1 0 2 / 2 then k else i 1 0 2 / 2), k]) 0 2048 (by omega) (fun k k0 k1 => by
      show b_X42_shortsIn_4 u X 0 _ k = _
      unfold b_X42_shortsIn_4
      have e8 : W32 (W32 (2048 * (0 : Int)) + k) = k := by rw [W32_in (z := 2048 * (0 : Int)) (by omega) (by omega), W32_in (by omega) (by omega)]; omega
      have e42 : ∀ y z, 0 ≤ y → y ≤ 1 → 0 ≤ z → z ≤ 4096 → u_X42_shortsIn_42 u X 0 k y z = some (.inl [X, 0, z + y, k + 1]) := fun y z a0 a1 b0 b1 => by
        rw [eu_X42_shortsIn_42]; unfold du_X42_shortsIn_42
        simp only [jlet]
        rw [W32_in (z := z + y) (by omega) (by omega), W32_in (by omega) (by omega)]
      have e41 : ∀ z, 0 ≤ z → z ≤ 4096 → u_X42_shortsIn_41 u X 0 k z = some (.inl [X, 0, z + 0, k + 1]) := fun z b0 b1 => by rw [eu_X42_shortsIn_41]; unfold du_X42_shortsIn_41; exact e42 0 z (by omega) (by omega) b0 b1
      rw [if_pos k1, e8, jlt_in k0 (by omega), Option.bind_some, h.mk0 k0 k1]
      by_cases cS : k < i 1 0 2 / 2
      · have hl := hcn k k0
        have hs := cn_s (P := ctI i 1) (x := k) k0
        rw [if_pos (show k ≤ i 1 0 2 / 2 by omega), if_pos (show k + 1 ≤ i 1 0 2 / 2 by omega), hs, e41 _ hl.1 (by omega), e42 _ _ (by omega) (by omega) hl.1 (by omega), s_mkSize h c k0 (by omega) vv.2.2.2.1, Option.bind_some]
        unfold ctI
        by_cases c1 : i 3 k 0 = 0
        · rw [if_pos c1, if_neg (by simp [c1])]
        · rw [if_neg c1]
          by_cases c3 : shI i k = true
          · rw [if_pos c3, if_pos rfl, if_pos (by simp [c1, c3])]
          · rw [if_neg c3, if_neg (by decide), if_neg (by simp [c1, c3])]
      · have z0 : i 3 k 0 = 0 := by
          rcases gm k k0 k1 with q | q
          · exact q
          · exact absurd q.1 cS
        have hl := hcn (i 1 0 2 / 2) (by omega)
        rw [if_pos z0]
        have ek : (if k ≤ i 1 0 2 / 2 then k else i 1 0 2 / 2) = i 1 0 2 / 2 := by split <;> omega
        rw [ek, if_neg (show ¬ k + 1 ≤ i 1 0 2 / 2 by omega), e41 _ hl.1 (by omega), Int.add_zero]) (r := some (cn (ctI i 1) (i 1 0 2 / 2))) (by
      show b_X42_shortsIn_4 u X 0 _ 2048 = _
      unfold b_X42_shortsIn_4
      rw [if_neg (by omega)]
      have ek : (if (2048 : Int) ≤ i 1 0 2 / 2 then (2048 : Int) else i 1 0 2 / 2) = i 1 0 2 / 2 := by split <;> omega
      rw [ek])
  rw [show cn (ctI i 1) (if (0 : Int) ≤ i 1 0 2 / 2 then 0 else i 1 0 2 / 2) = 0 by rw [if_pos (by omega)]; rfl] at this
  exact this
/-- places -/
theorem s_wlay (h : tIm s X 0 i) (vi : vIm i) (c0 : ¬ i 1 0 0 = 0) (big : ∀ t, sWt s t X → (∀ c a k, ¬ (c = 1000 ∧ a = X + 11) → jf t c a k = jf s c a k) → 16384 < ttI i → Q (t, -6)) (cont : ∀ t, sWt s t X → oF t X i → ttI i ≤ 16384 → jE (u_X42_write_179 t X (rI i 3 + 1) (ntI i) (nlI i) 0) Q) : jE (u_X42_write_17 s X 1 0) Q := by
  have pg := vi.2.2.1.lo
  rw [eu_X42_write_17]; unfold du_X42_write_17
  have cnt := jforW (C := jc3 b_X42_write_17) (fun x => [X, 1 + rI i x, x]) (fun _ => s) 0 3 (by omega) (fun x x0 x1 => by
      show b_X42_write_17 s X (1 + rI i x) x = _
      unfold b_X42_write_17
      obtain ⟨q1, q2, q3, q4⟩ := rI_lo vi x0 (show x ≤ 3 by omega)
      have v0 := (vi.1 x x0 x1).1
      have e37 : ∀ v, 0 ≤ v → v ≤ 1 → u_X42_write_37 s X x v (1 + rI i x) = some (.inl (s, [X, 1 + rI i x + v, x + 1])) := fun v a0 a1 => by
        rw [eu_X42_write_37]; unfold du_X42_write_37
        simp only [jlet]
        rw [W32_in (z := 1 + rI i x + v) (by omega) (by omega), W32_in (by omega) (by omega)]
      rw [if_pos x1, jlt_in x0 (by omega), Option.bind_some, (h.at0 x0 x1).1, e37 0 (by omega) (by omega), e37 1 (by omega) (by omega), q4 x1]
      by_cases c : i 1 x 0 = 0
      · rw [if_pos c, c, Int.add_assoc]
      · rw [if_neg c, show i 1 x 0 = 1 by omega, Int.add_assoc]) (r := u_X42_write_45 s X (1 + rI i 3)) (by
      show b_X42_write_17 s X (1 + rI i 3) 3 = _
      unfold b_X42_write_17
      rw [if_neg (by omega)])
  rw [show (1 : Int) + rI i 0 = 1 from rfl] at cnt
  obtain ⟨r0, r1, -, -⟩ := rI_lo vi (x := 3) (by omega) (by omega)
  rw [cnt, eu_X42_write_45]; unfold du_X42_write_45
  simp only [jlet]
  have e0 : eI i 0 = 52 + 32 * (1 + rI i 3) := by show 52 + 32 * (rI i 3 + 1) = _; omega
  rw [W32_in (z := 32 * (1 + rI i 3)) (by omega) (by omega), W32_in (z := 52 + 32 * (1 + rI i 3)) (by omega) (by omega), ← e0, eu_X42_write_56]; unfold du_X42_write_56
  refine jS_for (fun x t => jSm s t ∧ (∀ c a k, ¬ (c = 1000 ∧ a = X + 11) → jf t c a k = jf s c a k) ∧ ∀ y, 0 ≤ y → y < x → ¬ i 1 y 0 = 0 → jf t 1000 (X + 11) y = bI i y) (fun x => [X, 1 + rI i 3, eI i x, x]) 0 3 (by omega) ⟨jSm.rfl, fun _ _ _ _ => rfl, fun y y0 y1 => by omega⟩ (fun x t x0 x1 ⟨g1, g2, g3⟩ => ?_) (fun t ⟨g1, g2, g3⟩ => ?_)
  · show jE (b_X42_write_56 t X (1 + rI i 3) (eI i x) x) _
    unfold b_X42_write_56
    have H : tIm t X 0 i := h.wt ⟨g1, fun c a k p _ => g2 c a k (by omega)⟩
    have hx := H.at0 x0 x1
    have el := eI_lo vi x0 (show x ≤ 3 by omega)
    have e124 : ∀ t p, p = eI i (x + 1) → u_X42_write_124 t X (1 + rI i 3) p x = some (.inl (t, [X, 1 + rI i 3, eI i (x + 1), x + 1])) := fun t p hp => by
      rw [eu_X42_write_124]; unfold du_X42_write_124
      rw [W32_in (by omega) (by omega), hp]
    rw [if_pos x1, jlt_in x0 (by omega), Option.bind_some, hx.1]
    by_cases c : i 1 x 0 = 0
    · rw [if_pos c, e124 _ _ (by rw [eI_s x0, if_pos c])]
      refine jS_end ⟨rfl, g1, g2, fun y y0 y1 cy => ?_⟩
      by_cases q : y = x
      · subst q; exact absurd c cy
      · exact g3 y y0 (by omega) cy
    · obtain ⟨a1, a2, a3, -⟩ := hx.2 c
      have vv := (vi.1 x x0 x1).2 c
      have bl := bI_lo vi x0 x1 c
      have el1 := eI_lo vi (x := x + 1) (by omega) (by omega)
      have ae : bI i x % i 2 1 0 = i 1 x 1 % i 2 1 0 := aL_eq _ _ (by omega)
      rw [if_neg c, eu_X42_write_75]; unfold du_X42_write_75
      have lp := jforW (C := jc4 b_X42_write_75) (fun k => [X, 1 + rI i 3, k, x]) (fun _ => t) (eI i x) (bI i x) bl.1 (fun k k0 k1 => by
          show b_X42_write_75 t X (1 + rI i 3) k x = _
          unfold b_X42_write_75
          rw [jlt_in (by omega) (by omega), Option.bind_some, H.2.2.1, jdv_in (by omega), Option.bind_some, jlt_in x0 (by omega), Option.bind_some, a1, Option.bind_some, jdv_in (by omega), Option.bind_some, I_rem_n (x := k) (by omega) (by omega) (by omega) (by omega), I_rem_n (x := i 1 x 1) (by omega) (by omega) (by omega) (by omega), if_neg (aL_ne (by omega) k0 k1), W32_in (by omega) (by omega)]) (r := u_X42_write_106 t X (1 + rI i 3) (bI i x) x) (by
          show b_X42_write_75 t X (1 + rI i 3) (bI i x) x = _
          unfold b_X42_write_75
          rw [jlt_in (by omega) (by omega), Option.bind_some, H.2.2.1, jdv_in (by omega), Option.bind_some, jlt_in x0 (by omega), Option.bind_some, a1, Option.bind_some, jdv_in (by omega), Option.bind_some, I_rem_n (x := bI i x) (by omega) (by omega) (by omega) (by omega), I_rem_n (x := i 1 x 1) (by omega) (by omega) (by omega) (by omega), if_pos ae])
      rw [lp, eu_X42_write_106]; unfold du_X42_write_106
      rw [jst_in x0 (by omega), Option.bind_some, jlt_in x0 (by omega), Option.bind_some, jf_neg (by omega), a2]
      simp only [jlet]
      rw [W32_in (z := bI i x + i 1 x 2) (by omega) (by omega), e124 _ _ bl.2.2.symm]
      refine jS_end ⟨rfl, g1.jp, fun c' a' k' hc => by rw [jf_neg (by omega)]; exact g2 c' a' k' hc, fun y y0 y1 cy => ?_⟩
      by_cases q : y = x
      · rw [jf_pos ⟨rfl, rfl, q⟩, q]
      · rw [jf_neg (by omega)]; exact g3 y y0 (by omega) cy
  · show jE (b_X42_write_56 t X (1 + rI i 3) (eI i 3) 3) _
    unfold b_X42_write_56
    rw [if_neg (by omega), eu_X42_write_130]; unfold du_X42_write_130
    have el := eI_lo vi (x := 3) (by omega) (by omega)
    have u4 : eI i 3 ≤ ntI i ∧ ntI i < eI i 3 + 4 := by unfold ntI up4; omega
    have eU : ∀ v, 0 ≤ v → v ≤ 100000 → ∀ t, m_X42_upTo4 t v = some (up4 v) := fun v v0 v1 t => by
      rw [e_X42_upTo4, W32_in (z := v + 3) (by omega) (by omega), I_div_n (by omega) (by omega) (by omega) (by omega), W32_in (by omega) (by omega)]; rfl
    refine jS_inr ?_
    rw [eU _ (by omega) (by omega), Option.bind_some, show up4 (eI i 3) = ntI i from rfl, jst_in (by omega) (by omega), Option.bind_some]
    have W : sWt s (jp t 1000 (X + 11) 3 (ntI i)) X := ⟨g1.jp, fun c a k p _ => by rw [jf_neg (by omega)]; exact g2 c a k (by omega)⟩
    obtain ⟨m1, m2, m3⟩ := s_markBytes (h.wt W) vi (by omega) (by omega)
    have eN : nlI i = 28 + up4 (mkN i) := rfl
    have u5 : mkN i ≤ up4 (mkN i) ∧ up4 (mkN i) < mkN i + 4 := by unfold up4; omega
    rw [m1, Option.bind_some, eU _ m2 (by omega), Option.bind_some]
    simp only [jlet, jls]
    rw [W32_in (z := 28 + up4 (mkN i)) (by omega) (by omega), ← eN, W32_in (z := ntI i + nlI i) (by omega) (by omega), show ntI i + nlI i = ttI i from rfl]
    by_cases cb : 16384 < ttI i
    · rw [if_pos cb]
      exact jS_end (big _ W (fun c a k p => by rw [jf_neg (by omega)]; exact g2 c a k p) cb)
    · rw [if_neg cb, show 1 + rI i 3 = rI i 3 + 1 by omega]
      exact cont _ ⟨W.1.jp, fun c a k p q => by rw [jf_neg (by omega)]; exact W.2 c a k p q⟩ ⟨fun x x0 x1 c => by rw [jf_neg (by omega), jf_neg (by omega)]; exact g3 x x0 x1 c, jf_pos ⟨rfl, rfl, rfl⟩⟩ (by omega)
end jSwrite3
