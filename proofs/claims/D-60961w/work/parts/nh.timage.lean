/-! the linker: the twin's image is drawn: cleared, segments -/
set_option maxRecDepth 100000
section jLti
variable {s t u w : jS} {a b k m n o p q v l x y c f g j A H C X z' : Int} {i i' : Int → Int → Int → Int} {B : Int → Int}
/-- a segment as a whole -/
def iSg (i : Int → Int → Int → Int) (x a m n : Int) (B : Int → Int) : Int → Int → Int → Int := fun c y z => if c = 1 ∧ y = x then (if z = 0 then 1 else if z = 1 then a else if z = 2 then n else if z = 3 then m else i c y z) else if c = 0 ∧ y = x ∧ 0 ≤ z ∧ z < n then B z else i c y z
theorem iSg_0 : iSg i x a m n B 1 x 0 = 1 := by unfold iSg; rw [if_pos ⟨rfl, rfl⟩]; rfl
theorem iSg_1 : iSg i x a m n B 1 x 1 = a := by unfold iSg; rw [if_pos ⟨rfl, rfl⟩]; rfl
theorem iSg_2 : iSg i x a m n B 1 x 2 = n := by unfold iSg; rw [if_pos ⟨rfl, rfl⟩]; rfl
theorem iSg_3 : iSg i x a m n B 1 x 3 = m := by unfold iSg; rw [if_pos ⟨rfl, rfl⟩]; rfl
theorem iSg_b {k : Int} (k0 : 0 ≤ k) (k1 : k < n) : iSg i x a m n B 0 x k = B k := by unfold iSg; rw [if_neg (by omega), if_pos ⟨rfl, rfl, k0, k1⟩]
theorem iSg_o {c y z : Int} (h : ¬ y = x ∨ 2 ≤ c) : iSg i x a m n B c y z = i c y z := by unfold iSg; rw [if_neg (by omega), if_neg (by omega)]
theorem iSg_new : iSeg i x a m = iSg i x a m 0 B := by
  funext c y z; unfold iSeg iSg
  by_cases h : c = 1 ∧ y = x
  · rw [if_pos h, if_pos h]
  · rw [if_neg h, if_neg h, if_neg (by omega)]
theorem iSg_s (n0 : 0 ≤ n) : iPut (iSg i x a m n B) x (B n) = iSg i x a m (n + 1) B := by
  funext c y z
  unfold iPut
  rw [iSg_2]
  by_cases h1 : c = 0 ∧ y = x ∧ z = n
  · obtain ⟨rfl, rfl, rfl⟩ := h1
    rw [if_pos ⟨rfl, rfl, rfl⟩, iSg_b n0 (by omega)]
  rw [if_neg h1]
  by_cases h2 : c = 1 ∧ y = x ∧ z = 2
  · obtain ⟨rfl, rfl, rfl⟩ := h2
    rw [if_pos ⟨rfl, rfl, rfl⟩, iSg_2]
  rw [if_neg h2]
  unfold iSg
  by_cases h3 : c = 1 ∧ y = x
  · rw [if_pos h3, if_pos h3]
    by_cases z0 : z = 0
    · rw [if_pos z0, if_pos z0]
    rw [if_neg z0, if_neg z0]
    by_cases z1 : z = 1
    · rw [if_pos z1, if_pos z1]
    rw [if_neg z1, if_neg z1, if_neg (fun q => h2 ⟨h3.1, h3.2, q⟩), if_neg (fun q => h2 ⟨h3.1, h3.2, q⟩)]
  · rw [if_neg h3, if_neg h3]
    by_cases h4 : c = 0 ∧ y = x ∧ 0 ≤ z ∧ z < n
    · rw [if_pos h4, if_pos (by omega)]
    · rw [if_neg h4, if_neg (by omega)]
theorem vIm.sg (vi : vIm i) (hs : sgB x a m) (n0 : 0 ≤ n) (n1 : n ≤ 4096) (hB : ∀ k, 0 ≤ k → k < n → 0 ≤ B k ∧ B k < 256) : vIm (iSg i x a m n B) := by
  obtain ⟨h1, h2, h3, h4⟩ := vi
  obtain ⟨a0, a1, m0, m1⟩ := hs
  have m1' : m ≤ 32768 := by split at m1 <;> omega
  refine ⟨fun y y0 y1 => ?_, by rw [iSg_o (by omega)]; exact h2, by rw [iSg_o (by omega)]; exact h3, fun k k0 k1 => by rw [iSg_o (by omega)]; exact h4 k k0 k1⟩
  by_cases c : y = x
  · subst c
    rw [iSg_0, iSg_1, iSg_2, iSg_3]
    exact ⟨.inr rfl, fun _ => ⟨a0, a1, n0, n1, m0, m1', fun k k0 k1 => by rw [iSg_b k0 k1]; exact hB k k0 k1⟩⟩
  · have := h1 y y0 y1
    rw [iSg_o (.inl c), iSg_o (.inl c), iSg_o (.inl c), iSg_o (.inl c)]
    refine ⟨this.1, fun q => ?_⟩
    obtain ⟨b1, b2, b3, b4, b5, b6, b7⟩ := this.2 q
    exact ⟨b1, b2, b3, b4, b5, b6, fun k k0 k1 => by rw [iSg_o (.inl c)]; exact b7 k k0 k1⟩
/-- what drawing writes, the twin -/
def tDW (X : Int) (t w : jS) : Prop := jSm t w ∧ ∀ c a k, ¬ (X + 1 ≤ a ∧ a ≤ X + 8) → jf w c a k = jf t c a k
theorem tDW.rfl : tDW X t t := ⟨jSm.rfl, fun _ _ _ _ => Eq.refl _⟩
theorem tDW.trans (h : tDW X t u) (g : tDW X u w) : tDW X t w := ⟨h.1.trans g.1, fun c a k q => (g.2 c a k q).trans (h.2 c a k q)⟩
theorem tDW.jp (h : tDW X t u) (q : X + 1 ≤ a ∧ a ≤ X + 8) : tDW X t (jp u c a k v) := ⟨h.1.jp, fun c' a' k' z => by rw [jf_neg (by omega)]; exact h.2 c' a' k' z⟩
theorem t_clearI : ∃ w, m_X42_clear t X = some (w, 0) ∧ tIm w X 0 iNew ∧ tDW X t w := by
  rw [em_X42_clear]; unfold dm_X42_clear
  rw [eu_X42_clear_2]; unfold du_X42_clear_2
  obtain ⟨w, ew, h1, h2⟩ := loopTo (C := jc2 b_X42_clear_2) (fun i w => tDW X t w ∧ ∀ y, 0 ≤ y → y < i → jf w 1002 (X + 1) y = 0) (fun i => [X, i]) 0 3 (by decide) (s := t) (F := fun w => u_X42_clear_27 w X) ⟨.rfl, fun y y0 y1 => by omega⟩ (fun i w i0 i1 ⟨j1, j2⟩ => by
    refine ⟨jp (jp w 1002 (X + 1) i 0) 1000 (X + 4) i 0, ?_, (j1.jp (by omega)).jp (by omega), fun y y0 y1 => ?_⟩
    · show b_X42_clear_2 w X i = _
      unfold b_X42_clear_2
      rw [if_pos i1, jst_in i0 (by omega), Option.bind_some, jst_in i0 (by omega), Option.bind_some, W32_in (by omega) (by omega), Wz_0]
    · rw [jf_neg (by omega)]
      by_cases c : y = i
      · rw [c, jf_pos ⟨rfl, rfl, rfl⟩]
      · rw [jf_neg (by omega)]; exact j2 y y0 (by omega)) (fun w _ => by
    show b_X42_clear_2 w X 3 = _
    unfold b_X42_clear_2
    rw [if_neg (by decide)])
  rw [ew, eu_X42_clear_27]; unfold du_X42_clear_27
  rw [eu_X42_clear_29]; unfold du_X42_clear_29
  obtain ⟨w2, ew2, g1, g2, g3⟩ := loopTo (C := jc2 b_X42_clear_29) (fun i w => tDW X t w ∧ (∀ y, 0 ≤ y → y < 3 → jf w 1002 (X + 1) y = 0) ∧ ∀ k, 0 ≤ k → k < i → jf w 1002 (X + 6) k = 0) (fun i => [X, i]) 0 2048 (by decide) (s := w) (F := fun w => u_X42_clear_49 w X) ⟨h1, h2, fun y y0 y1 => by omega⟩ (fun i w i0 i1 ⟨j1, j2, j3⟩ => by
    refine ⟨jp w 1002 (X + 6) i 0, ?_, j1.jp (by omega), fun y y0 y1 => by rw [jf_neg (by omega)]; exact j2 y y0 y1, fun k k0 k1 => ?_⟩
    · show b_X42_clear_29 w X i = _
      unfold b_X42_clear_29
      rw [if_pos i1, jst_in i0 (by omega), Option.bind_some, W32_in (by omega) (by omega), Wz_0]
    · by_cases c : k = i
      · rw [c, jf_pos ⟨rfl, rfl, rfl⟩]
      · rw [jf_neg (by omega)]; exact j3 k k0 (by omega)) (fun w _ => by
    show b_X42_clear_29 w X 2048 = _
    unfold b_X42_clear_29
    rw [if_neg (by decide)])
  rw [ew2, eu_X42_clear_49]; unfold du_X42_clear_49
  rw [jst_in (by decide) (by decide), Option.bind_some, jst_in (by decide) (by decide), Option.bind_some]
  refine ⟨_, rfl, ⟨fun y y0 y1 => ⟨?_, fun q => absurd rfl q⟩, ?_, ?_, fun k k0 k1 => ?_⟩, (g1.jp (by omega)).jp (by omega)⟩
  · rw [jf_neg (by omega), jf_neg (by omega), show 3 * 0 + y = y by omega]; exact g2 y y0 y1
  · rw [jf_neg (by omega), jf_pos ⟨rfl, rfl, rfl⟩]; rfl
  · rw [jf_pos ⟨rfl, rfl, rfl⟩]; rfl
  · rw [jf_neg (by omega), jf_neg (by omega), show 2048 * 0 + k = k by omega]; exact g3 k k0 k1
theorem t_segI (h : tIm t (H + 118) 0 i) (vi : vIm i) (x0 : 0 ≤ x) (x1 : x < 3) (b2 : jf t 1000 (H + 93 + 2) x = a) (b3 : jf t 1000 (H + 93 + 3) x = a + n) (a0 : -100000000 ≤ a ∧ a ≤ 100000000) (n0 : 0 ≤ n) (n1 : n ≤ 4096) (hi : i 1 x 0 = 0) : ∃ w, m_X37_imageSegment t H x m = some (w, 0) ∧ tDW (H + 118) t w ∧ (sgB x a m → tIm w (H + 118) 0 (iSg i x a m n (fun k => tBy t H x k))) ∧ (¬ sgB x a m → tIm w (H + 118) 0 i) := by
  obtain ⟨t1, t2, t3, t4⟩ := h
  have osz : ∀ w, tDW (H + 118) t w → m_X37_outputSize w H x = some n := fun w hw => by
    rw [em_X37_outputSize]; unfold dm_X37_outputSize
    rw [jlt_in x0 (by omega), Option.bind_some, jlt_in x0 (by omega), Option.bind_some, hw.2 _ _ _ (by omega), hw.2 _ _ _ (by omega), b2, b3, W32_in (by omega) (by omega), show a + n - a = n by omega]
  -- the head
  have hd : ∃ w y, m_X42_segment t (H + 118) x a m = some (w, y) ∧ tDW (H + 118) t w ∧ (∀ c a' k, ¬ ((c = 1002 ∧ a' = H + 118 + 1 ∨ c = 1000 ∧ H + 118 + 2 ≤ a' ∧ a' ≤ H + 118 + 4) ∧ k = x) → jf w c a' k = jf t c a' k) ∧ (sgB x a m → jf w 1002 (H + 118 + 1) x = 1 ∧ jf w 1000 (H + 118 + 2) x = a ∧ jf w 1000 (H + 118 + 3) x = m) ∧ (¬ sgB x a m → w = t) := by
    have h38 : sgB x a m → ∃ w y, u_X42_segment_38 t (H + 118) x a m = some (w, y) ∧ tDW (H + 118) t w ∧ (∀ c a' k, ¬ ((c = 1002 ∧ a' = H + 118 + 1 ∨ c = 1000 ∧ H + 118 + 2 ≤ a' ∧ a' ≤ H + 118 + 4) ∧ k = x) → jf w c a' k = jf t c a' k) ∧ (sgB x a m → jf w 1002 (H + 118 + 1) x = 1 ∧ jf w 1000 (H + 118 + 2) x = a ∧ jf w 1000 (H + 118 + 3) x = m) ∧ (¬ sgB x a m → w = t) := fun hs => by
      have h0 := (t1 x x0 x1).1
      rw [show 3 * 0 + x = x by omega, hi] at h0
      rw [eu_X42_segment_38]; unfold du_X42_segment_38
      rw [jlt_in x0 (by omega), Option.bind_some, h0, if_pos rfl, jst_in x0 (by omega), Option.bind_some, eu_X42_segment_54]; unfold du_X42_segment_54
      rw [jst_in x0 (by omega), Option.bind_some, jst_in x0 (by omega), Option.bind_some, jst_in x0 (by omega), Option.bind_some, Wz_1]
      refine ⟨_, _, rfl, (((tDW.rfl.jp (by omega)).jp (by omega)).jp (by omega)).jp (by omega), fun c a' k q => ?_, fun _ => ⟨?_, ?_, ?_⟩, fun q => absurd hs q⟩
      · rw [jf_neg (by omega), jf_neg (by omega), jf_neg (by omega), jf_neg (by omega)]
      · rw [jf_neg (by omega), jf_neg (by omega), jf_pos ⟨rfl, rfl, rfl⟩]
      · rw [jf_neg (by omega), jf_pos ⟨rfl, rfl, rfl⟩]
      · rw [jf_pos ⟨rfl, rfl, rfl⟩]
    have no : ¬ sgB x a m → ∃ w y, (some (t, Wz 0) : Option (jS × Int)) = some (w, y) ∧ tDW (H + 118) t w ∧ (∀ c a' k, ¬ ((c = 1002 ∧ a' = H + 118 + 1 ∨ c = 1000 ∧ H + 118 + 2 ≤ a' ∧ a' ≤ H + 118 + 4) ∧ k = x) → jf w c a' k = jf t c a' k) ∧ (sgB x a m → jf w 1002 (H + 118 + 1) x = 1 ∧ jf w 1000 (H + 118 + 2) x = a ∧ jf w 1000 (H + 118 + 3) x = m) ∧ (¬ sgB x a m → w = t) := fun hs => ⟨t, _, rfl, .rfl, fun _ _ _ _ => rfl, fun q => absurd q hs, fun _ => rfl⟩
    rw [em_X42_segment]; unfold dm_X42_segment
    rw [e_X42_isSegment, if_pos (show ¬ x < 0 ∧ x < 3 by omega), Option.bind_some, if_neg n10]
    unfold sgB at no h38 ⊢
    by_cases c1 : a < 0
    · rw [if_pos c1]; exact no (by omega)
    rw [if_neg c1]
    by_cases c2 : a < 131072
    · rw [if_pos c2]
      by_cases c3 : m < 0
      · rw [if_pos c3]; exact no (by omega)
      rw [if_neg c3]
      by_cases c4 : 32768 < m
      · rw [if_pos c4]; exact no (by split <;> omega)
      rw [if_neg c4]
      by_cases c5 : x < 2
      · rw [if_pos c5]
        by_cases c6 : 0 < m
        · rw [if_pos c6]; exact no (by rw [if_neg (show ¬ x = 2 by omega)]; omega)
        · rw [if_neg c6]; exact h38 (by rw [if_neg (show ¬ x = 2 by omega)]; omega)
      · rw [if_neg c5]; exact h38 (by rw [if_pos (show x = 2 by omega)]; omega)
    · rw [if_neg c2]; exact no (by omega)
  obtain ⟨w, yy, e1, W1, F1, hs, hn⟩ := hd
  rw [em_X37_imageSegment]; unfold dm_X37_imageSegment
  rw [jlt_in x0 (by omega), Option.bind_some, b2, e1, Option.bind_some]
  dsimp only
  rw [osz w W1, Option.bind_some, jst_in x0 (by omega), Option.bind_some, eu_X37_imageSegment_35]; unfold du_X37_imageSegment_35
  obtain ⟨u2, E2⟩ : ∃ u2, u2 = jp w 1000 (H + 118 + 4) x n := ⟨_, rfl⟩
  obtain ⟨f2, p2, -⟩ := jpF E2
  have W2 : tDW (H + 118) t u2 := by rw [E2]; exact W1.jp (by omega)
  rw [← E2]
  obtain ⟨w3, e3, W3, F3, B3⟩ := loopTo (C := jc3 b_X37_imageSegment_35) (fun k w' => tDW (H + 118) t w' ∧ (∀ c a' k', ¬ (c = 1000 ∧ a' = H + 118 + 5 ∧ 4096 * x ≤ k' ∧ k' < 4096 * x + 4096) → jf w' c a' k' = jf u2 c a' k') ∧ ∀ j, 0 ≤ j → j < k → jf w' 1000 (H + 118 + 5) (4096 * x + j) = tBy t H x j) (fun k => [H, x, k]) 0 n n0 (s := u2) (F := fun w => some (w, 0)) ⟨W2, fun _ _ _ _ => rfl, fun j j0 j1 => by omega⟩ (fun k w' k0 k1 ⟨j1, j2, j3⟩ => by
    refine ⟨jp w' 1000 (H + 118 + 5) (4096 * x + k) (tBy t H x k), ?_, j1.jp (by omega), fun c a' k' q => by rw [jf_neg (by omega)]; exact j2 c a' k' q, fun j q0 q1 => ?_⟩
    · show b_X37_imageSegment_35 w' H x k = _
      unfold b_X37_imageSegment_35
      have r1 : jf w' 1000 (H + 205) (4096 * x + k) = tBy t H x k := j1.2 _ _ _ (by omega)
      rw [osz w' j1, Option.bind_some, if_pos k1, W32_in (z := 4096 * x) (by omega) (by omega), W32_in (z := 4096 * x + k) (by omega) (by omega), jlt_in (by omega) (by omega), Option.bind_some, r1, jst_in (by omega) (by omega), Option.bind_some, W32_in (z := k + 1) (by omega) (by omega)]
    · by_cases c : j = k
      · rw [c, jf_pos ⟨rfl, rfl, rfl⟩]
      · rw [jf_neg (by omega)]; exact j3 j q0 (by omega)) (fun w' ⟨j1, _⟩ => by
    show b_X37_imageSegment_35 w' H x n = _
    unfold b_X37_imageSegment_35
    rw [osz w' j1, Option.bind_some, if_neg (Int.lt_irrefl _)])
  refine ⟨w3, e3, W3, fun q => ?_, fun q => ?_⟩
  · obtain ⟨p1, p3, p4⟩ := hs q
    have G : ∀ c a' k', ¬ (c = 1000 ∧ a' = H + 118 + 5 ∧ 4096 * x ≤ k' ∧ k' < 4096 * x + 4096) → ¬ ((c = 1002 ∧ a' = H + 118 + 1 ∨ c = 1000 ∧ H + 118 + 2 ≤ a' ∧ a' ≤ H + 118 + 4) ∧ k' = x) → jf w3 c a' k' = jf t c a' k' := fun c a' k' q1 q2 => by
      rw [F3 c a' k' q1, f2 _ _ _ (by omega), F1 c a' k' q2]
    refine ⟨fun y y0 y1 => ?_, by rw [G _ _ _ (by omega) (by omega), iSg_o (by omega)]; exact t2, by rw [G _ _ _ (by omega) (by omega), iSg_o (by omega)]; exact t3, fun k k0 k1 => by rw [G _ _ _ (by omega) (by omega), iSg_o (by omega)]; exact t4 k k0 k1⟩
    by_cases c : y = x
    · subst c
      refine ⟨?_, fun _ => ⟨?_, ?_, ?_, fun k k0 k1 => ?_⟩⟩
      · rw [show 3 * 0 + y = y by omega, F3 _ _ _ (by omega), f2 _ _ _ (by omega), p1, iSg_0]
      · rw [show 3 * 0 + y = y by omega, F3 _ _ _ (by omega), f2 _ _ _ (by omega), p3, iSg_1]
      · rw [show 3 * 0 + y = y by omega, F3 _ _ _ (by omega), p2, iSg_2]
      · rw [show 3 * 0 + y = y by omega, F3 _ _ _ (by omega), f2 _ _ _ (by omega), p4, iSg_3]
      · rw [iSg_2] at k1
        rw [show 4096 * (3 * 0 + y) + k = 4096 * y + k by omega, iSg_b k0 k1]; exact B3 k k0 k1
    · obtain ⟨z1, z2⟩ := t1 y y0 y1
      unfold tSg
      rw [iSg_o (.inl c), iSg_o (.inl c), iSg_o (.inl c), iSg_o (.inl c), G _ _ _ (by omega) (by omega)]
      refine ⟨z1, fun q => ?_⟩
      obtain ⟨y1', y2, y3, y4⟩ := z2 q
      obtain ⟨-, -, -, n4, -⟩ := (vi.1 y y0 y1).2 q
      exact ⟨by rw [G _ _ _ (by omega) (by omega)]; exact y1', by rw [G _ _ _ (by omega) (by omega)]; exact y2, by rw [G _ _ _ (by omega) (by omega)]; exact y3, fun k k0 k1 => by rw [G _ _ _ (by omega) (by omega), iSg_o (.inl c)]; exact y4 k k0 k1⟩
  · have hw := hn q
    have G : ∀ c a' k', ¬ (c = 1000 ∧ a' = H + 118 + 5 ∧ 4096 * x ≤ k' ∧ k' < 4096 * x + 4096) → ¬ (c = 1000 ∧ a' = H + 118 + 4 ∧ k' = x) → jf w3 c a' k' = jf t c a' k' := fun c a' k' q1 q2 => by
      rw [F3 c a' k' q1, f2 _ _ _ (by omega), hw]
    refine ⟨fun y y0 y1 => ?_, by rw [G _ _ _ (by omega) (by omega)]; exact t2, by rw [G _ _ _ (by omega) (by omega)]; exact t3, fun k k0 k1 => by rw [G _ _ _ (by omega) (by omega)]; exact t4 k k0 k1⟩
    obtain ⟨z1, z2⟩ := t1 y y0 y1
    refine ⟨by rw [G _ _ _ (by omega) (by omega)]; exact z1, fun q => ?_⟩
    have c : ¬ y = x := fun z => by rw [z] at q; exact q hi
    obtain ⟨y1', y2, y3, y4⟩ := z2 q
    obtain ⟨-, -, -, n4, -⟩ := (vi.1 y y0 y1).2 q
    exact ⟨by rw [G _ _ _ (by omega) (by omega)]; exact y1', by rw [G _ _ _ (by omega) (by omega)]; exact y2, by rw [G _ _ _ (by omega) (by omega)]; exact y3, fun k k0 k1 => by rw [G _ _ _ (by omega) (by omega)]; exact y4 k k0 k1⟩
end jLti
