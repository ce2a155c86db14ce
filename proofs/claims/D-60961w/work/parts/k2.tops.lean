/-! the twin's layout is built -/
set_option maxRecDepth 100000
section jTops
variable {s t u w' : jS} {a b k m o p v l n x y c j X f z B i q w S P Q P' Q' K : Int} {d e : Int → Int → Int} {g : Int → Int}
def tbW (X : Int) (s u : jS) : Prop := jSm s u ∧ ∀ c a k, ¬ (c = 45 ∧ a = X) → ¬ ((c = 1000 ∨ c = 1002) ∧ X + 1 ≤ a ∧ a ≤ X + 24) → jf u c a k = jf s c a k
theorem tbW.rfl : tbW X s s := ⟨jSm.rfl, fun _ _ _ _ _ => Eq.refl _⟩
theorem tbW.trans (h : tbW X s u) (g : tbW X u w') : tbW X s w' := ⟨h.1.trans g.1, fun c a k q1 q2 => (g.2 c a k q1 q2).trans (h.2 c a k q1 q2)⟩
theorem tbW.jp (h : tbW X s u) (hc : c = 45 ∧ a = X ∨ (c = 1000 ∨ c = 1002) ∧ X + 1 ≤ a ∧ a ≤ X + 24) : tbW X s (jp u c a k v) := ⟨h.1.jp, fun c' a' k' q1 q2 => by
  have e := h.2 c' a' k' q1 q2
  rw [jf_neg, e]
  rintro ⟨rfl, rfl, rfl⟩
  clear e
  omega⟩
/-- what an operation gives: none, if full, or e -/
def tpO (t : jS) (X N M : Int) (e : Int → Int → Int) (r : jS × Int) : Prop := (N = M ∧ r = (t, -1)) ∨ (N < M ∧ r.2 = N ∧ tLs r.1 X e ∧ tbW X t r.1)
theorem t_lpart (h : tLs t X d) (v : vLy d) (ho : 0 ≤ o ∧ o < 4) (hw : 0 ≤ w ∧ w ≤ 12) : jE (m_X41_part t X o w) (tpO t X (d 0 0) 32 (dPt d o w)) := by
  have v0 := v.1
  rw [em_X41_part]; unfold dm_X41_part
  rw [h.1.2.1]
  by_cases c32 : d 0 0 = 32
  · rw [if_pos c32]; exact jS_end (.inl ⟨c32, rfl⟩)
  rw [if_neg c32, e_X41_within, if_pos (by omega), Option.bind_some, if_neg n10, e_X41_within, if_pos (by omega), Option.bind_some, if_neg n10, jst_in v0.1 (by omega), Option.bind_some]
  obtain ⟨y1, Y1⟩ : ∃ y1, y1 = jp t 1000 (X + 4) (d 0 0) o := ⟨_, rfl⟩
  obtain ⟨f1, p1, -⟩ := jpF Y1
  rw [← Y1, f1 45 X 4 (by omega), h.1.2.1, jst_in v0.1 (by omega), Option.bind_some, one_shl hw.1 hw.2]
  obtain ⟨y2, Y2⟩ : ∃ y2, y2 = jp y1 1000 (X + 5) (d 0 0) (2 ^ w.toNat) := ⟨_, rfl⟩
  obtain ⟨f2, p2, -⟩ := jpF Y2
  rw [← Y2, f2 45 X 4 (by omega), f1 45 X 4 (by omega), h.1.2.1, W32_in (by omega) (by omega)]
  obtain ⟨y, E_y⟩ : ∃ y, y = jp y2 45 X 4 (d 0 0 + 1) := ⟨_, rfl⟩
  obtain ⟨f_y, p_y, -⟩ := jpF E_y
  rw [jls_e, ← E_y]
  rw [p_y, W32_in (by omega) (by omega)]
  have FY : ∀ c a k, ¬ (c = 1000 ∧ (a = X + 4 ∨ a = X + 5) ∧ k = d 0 0) → ¬ (c = 45 ∧ a = X ∧ k = 4) → jf y c a k = jf t c a k := fun c a k q1 q2 => by
    rw [f_y _ _ _ (by omega), f2 _ _ _ (by omega), f1 _ _ _ (by omega)]
  refine jS_end (.inr ⟨by omega, by show d 0 0 + 1 - 1 = d 0 0; omega, ?_, by rw [E_y, Y2, Y1]; exact ((tbW.rfl.jp (by omega)).jp (by omega)).jp (by omega)⟩)
  obtain ⟨⟨h1, h2, h3, h4⟩, h5, h6, h7, h8, h9, h10⟩ := h
  have H : ∀ f k, 5 ≤ f → dPt d o w f k = d f k := fun f k hf => dPt_no (by omega) (by omega)
  have N1 : dPt d o w 0 1 = d 0 1 := dPt_no (by omega) (by omega)
  refine ⟨⟨by rw [FY _ _ _ (by omega) (by omega), dPt_no (by omega) (by omega)]; exact h1, by rw [dPt_0]; exact p_y, by rw [FY _ _ _ (by omega) (by omega), N1]; exact h3, by rw [FY _ _ _ (by omega) (by omega), dPt_no (by omega) (by omega)]; exact h4⟩, fun i o0 o1 => by rw [FY _ _ _ (by omega) (by omega), H _ _ (by decide)]; exact h5 i o0 o1, fun p p0 q1 => ?_, fun p p0 q1 => by rw [FY _ _ _ (by omega) (by omega)]; exact h7 p p0 q1, fun k k0 k1 => ?_, fun k k0 k1 hk => ?_, fun l l0 l1 => ?_⟩
  · rw [dPt_0] at q1
    by_cases c : p = d 0 0
    · rw [c, dPt_1, dPt_2, f_y _ _ _ (by omega), f2 _ _ _ (by omega), f_y _ _ _ (by omega)]; exact ⟨p1, p2⟩
    · rw [FY _ _ _ (by omega) (by omega), FY _ _ _ (by omega) (by omega), dPt_no (f := 1) (by omega) (by omega), dPt_no (f := 2) (by omega) (by omega)]; exact h6 p p0 (by omega)
  · rw [N1] at k1
    have := h8 k k0 k1
    unfold mvK at this ⊢
    rw [H 5 _ (by decide), H 6 _ (by decide), H 7 _ (by decide), H 8 _ (by decide), H 9 _ (by decide), H 10 _ (by decide), H 11 _ (by decide), H 15 _ (by decide), H 16 _ (by decide), FY _ (X + 11) _ (by omega) (by omega), FY _ (X + 12) _ (by omega) (by omega), FY _ (X + 13) _ (by omega) (by omega), FY _ (X + 14) _ (by omega) (by omega), FY _ (X + 15) _ (by omega) (by omega), FY _ (X + 16) _ (by omega) (by omega), FY _ (X + 17) _ (by omega) (by omega), FY _ (X + 18) _ (by omega) (by omega), FY _ (X + 19) _ (by omega) (by omega)]
    exact this
  · rw [FY _ _ _ (by omega) (by omega)]
    refine h9 k k0 k1 fun q => hk ⟨by rw [N1]; exact q.1, ?_⟩
    unfold mvK; rw [H 5 _ (by decide)]; exact q.2
  · rw [dPt_no (by omega) (by omega)] at l1
    rw [FY _ _ _ (by omega) (by omega), FY _ _ _ (by omega) (by omega), H 12 _ (by decide), H 13 _ (by decide)]; exact h10 l l0 l1
/-- a piece -/
theorem t_added (h : tLs t X d) (v : vLy d) (h0 : 0 < d 0 0) (h1 : d 0 1 < 256) (hS : 0 ≤ S ∧ S ≤ 4) (hx : x = if S = 0 ∨ S = 4 then n else if S = 1 then 8 else 4) (hw : S = 4 → jf t 1000 (X + 15) (d 0 1) = w) (hm : S = 1 ∨ S = 2 ∨ S = 3 → jf t 1000 (X + 16) (d 0 1) = l ∧ jf t 1000 (X + 17) (d 0 1) = c ∧ jf t 1002 (X + 18) (d 0 1) = z) : ∃ u, m_X41_added t X (d 0 0 - 1) S x = some (u, d 0 1) ∧ tLs u X (dPc d S n w l c z) ∧ tbW X t u := by
  have v1 := v.2.1
  rw [em_X41_added]; unfold dm_X41_added
  rw [h.1.2.2.1, jst_in v1.1 (by omega), Option.bind_some]
  obtain ⟨y1, Y1⟩ : ∃ y1, y1 = jp t 1000 (X + 11) (d 0 1) S := ⟨_, rfl⟩
  obtain ⟨f1, p1, -⟩ := jpF Y1
  rw [← Y1, f1 45 X 12 (by omega), h.1.2.2.1, jst_in v1.1 (by omega), Option.bind_some]
  obtain ⟨y2, Y2⟩ : ∃ y2, y2 = jp y1 1000 (X + 12) (d 0 1) (d 0 0 - 1) := ⟨_, rfl⟩
  obtain ⟨f2, p2, -⟩ := jpF Y2
  rw [← Y2, f2 45 X 12 (by omega), f1 45 X 12 (by omega), h.1.2.2.1, jst_in v1.1 (by omega), Option.bind_some]
  obtain ⟨y3, Y3⟩ : ∃ y3, y3 = jp y2 1000 (X + 13) (d 0 1) x := ⟨_, rfl⟩
  obtain ⟨f3, p3, -⟩ := jpF Y3
  rw [← Y3, f3 45 X 12 (by omega), f2 45 X 12 (by omega), f1 45 X 12 (by omega), h.1.2.2.1, jst_in v1.1 (by omega), Option.bind_some]
  obtain ⟨y4, Y4⟩ : ∃ y4, y4 = jp y3 1000 (X + 14) (d 0 1) x := ⟨_, rfl⟩
  obtain ⟨f4, p4, -⟩ := jpF Y4
  rw [← Y4, f4 45 X 12 (by omega), f3 45 X 12 (by omega), f2 45 X 12 (by omega), f1 45 X 12 (by omega), h.1.2.2.1, W32_in (by omega) (by omega)]
  obtain ⟨y, E_y⟩ : ∃ y, y = jp y4 45 X 12 (d 0 1 + 1) := ⟨_, rfl⟩
  obtain ⟨f_y, p_y, -⟩ := jpF E_y
  rw [jls_e, ← E_y]
  rw [p_y, W32_in (by omega) (by omega), show d 0 1 + 1 - 1 = d 0 1 by omega]
  have FY : ∀ c a k, ¬ (c = 1000 ∧ X + 11 ≤ a ∧ a ≤ X + 14 ∧ k = d 0 1) → ¬ (c = 45 ∧ a = X ∧ k = 12) → jf y c a k = jf t c a k := fun c a k q1 q2 => by
    rw [f_y _ _ _ (by omega), f4 _ _ _ (by omega), f3 _ _ _ (by omega), f2 _ _ _ (by omega), f1 _ _ _ (by omega)]
  refine ⟨y, rfl, ?_, by rw [E_y, Y4, Y3, Y2, Y1]; exact ((((tbW.rfl.jp (by omega)).jp (by omega)).jp (by omega)).jp (by omega)).jp (by omega)⟩
  obtain ⟨e5, e6, e7, e8, e9, e10, e11, e15, e16⟩ := dPc_at (d := d) (S := S) (n := n) (w := w) (l := l) (c := c) (z := z)
  obtain ⟨⟨g1, g2, g3, g4⟩, g5, g6, g7, g8, g9, g10⟩ := h
  have H0 : dPc d S n w l c z 0 0 = d 0 0 := dPc_no (by omega) (by omega) (by omega)
  refine ⟨⟨by rw [FY _ _ _ (by omega) (by omega), dPc_no (by omega) (by omega) (by omega)]; exact g1, by rw [FY _ _ _ (by omega) (by omega), H0]; exact g2, by rw [dPc_0]; exact p_y, by rw [FY _ _ _ (by omega) (by omega), dPc_no (by omega) (by omega) (by omega)]; exact g4⟩, fun i o0 o1 => by rw [FY _ _ _ (by omega) (by omega), dPc_no (by omega) (by omega) (by omega)]; exact g5 i o0 o1, fun p p0 q1 => ?_, fun p p0 q1 => by rw [FY _ _ _ (by omega) (by omega)]; exact g7 p p0 q1, fun k k0 k1 => ?_, fun k k0 k1 hk => ?_, fun l l0 l1 => ?_⟩
  · rw [H0] at q1
    rw [FY _ _ _ (by omega) (by omega), FY _ _ _ (by omega) (by omega), dPc_no (f := 1) (by omega) (by omega) (by omega), dPc_no (f := 2) (by omega) (by omega) (by omega)]; exact g6 p p0 q1
  · rw [dPc_0] at k1
    unfold mvK
    by_cases ck : k = d 0 1
    · rw [ck, e5, e6, e7, e8, e9, e10, e11, e15, e16]
      have r11 : jf y 1000 (X + 11) (d 0 1) = S := by rw [f_y _ _ _ (by omega), f4 _ _ _ (by omega), f3 _ _ _ (by omega), f2 _ _ _ (by omega)]; exact p1
      have r12 : jf y 1000 (X + 12) (d 0 1) = d 0 0 - 1 := by rw [f_y _ _ _ (by omega), f4 _ _ _ (by omega), f3 _ _ _ (by omega)]; exact p2
      have r13 : jf y 1000 (X + 13) (d 0 1) = x := by rw [f_y _ _ _ (by omega), f4 _ _ _ (by omega)]; exact p3
      have r14 : jf y 1000 (X + 14) (d 0 1) = x := by rw [f_y _ _ _ (by omega)]; exact p4
      refine ⟨⟨r11, r12⟩, fun q => ?_, fun q => ?_, fun q => ?_, fun q => by rw [FY _ _ _ (by omega) (by omega)]; exact hw q, fun q => ?_⟩
      · rw [r13, hx, if_pos (.inl q)]
      · rw [r13, hx, if_neg (by omega)]
      · rw [r14, hx, if_pos q]
      · obtain ⟨m1, m2, m3⟩ := hm q
        rw [FY _ (X + 16) _ (by omega) (by omega), FY _ (X + 17) _ (by omega) (by omega), FY _ (X + 18) _ (by omega) (by omega), FY _ (X + 19) _ (by omega) (by omega)]
        exact ⟨m1, m2, m3, g9 _ v1.1 h1 fun q => by omega⟩
    · have H : ∀ f, ¬ f = 0 → ¬ f = 4 → dPc d S n w l c z f k = d f k := fun f h0 h4 => dPc_no (by omega) (by omega) (by omega)
      have := g8 k k0 (by omega)
      unfold mvK at this
      rw [H 5 (by decide) (by decide), H 6 (by decide) (by decide), H 7 (by decide) (by decide), H 8 (by decide) (by decide), H 9 (by decide) (by decide), H 10 (by decide) (by decide), H 11 (by decide) (by decide), H 15 (by decide) (by decide), H 16 (by decide) (by decide), FY _ (X + 11) _ (by omega) (by omega), FY _ (X + 12) _ (by omega) (by omega), FY _ (X + 13) _ (by omega) (by omega), FY _ (X + 14) _ (by omega) (by omega), FY _ (X + 15) _ (by omega) (by omega), FY _ (X + 16) _ (by omega) (by omega), FY _ (X + 17) _ (by omega) (by omega), FY _ (X + 18) _ (by omega) (by omega), FY _ (X + 19) _ (by omega) (by omega)]
      exact this
  · rw [FY _ _ _ (by omega) (by omega)]
    refine g9 k k0 k1 fun q => hk ⟨by rw [dPc_0]; omega, ?_⟩
    unfold mvK; rw [dPc_no (by omega) (by omega) (by omega)]; exact q.2
  · rw [dPc_no (by omega) (by omega) (by omega)] at l1
    rw [FY _ _ _ (by omega) (by omega), FY _ _ _ (by omega) (by omega), dPc_no (f := 12) (by omega) (by omega) (by omega), dPc_no (f := 13) (by omega) (by omega) (by omega)]; exact g10 l l0 l1
theorem t_isPt (h : tLs t X d) (v : vLy d) (h0 : 0 < d 0 0) : m_X41_isPart t X (d 0 0 - 1) = some 1 := by
  have := v.1
  rw [e_X41_isPart, h.1.2.1, W32_in (by omega) (by omega), if_pos (by omega)]
theorem t_lplain (h : tLs t X d) (v : vLy d) (h0 : 0 < d 0 0) (hn : 0 ≤ n ∧ n ≤ 4096) : jE (m_X41_plain t X (d 0 0 - 1) n) (tpO t X (d 0 1) 256 (dPc d 0 n 0 0 0 0)) := by
  have v1 := v.2.1
  rw [em_X41_plain]; unfold dm_X41_plain
  rw [h.1.2.2.1]
  by_cases c : d 0 1 = 256
  · rw [if_pos c]; exact jS_end (.inl ⟨c, rfl⟩)
  obtain ⟨u, eu, hu, lu⟩ := t_added (S := 0) (n := n) (w := 0) (l := 0) (c := 0) (z := 0) h v h0 (by omega) (by decide) (if_pos (.inl rfl)).symm (fun q => absurd q (by decide)) (fun q => by omega)
  rw [if_neg c, t_isPt h v h0, Option.bind_some, if_neg n10, e_X41_within, if_pos (by omega), Option.bind_some, if_neg n10, eu, Option.bind_some]
  exact jS_end (.inr ⟨by omega, rfl, hu, lu⟩)
theorem t_lfill (h : tLs t X d) (v : vLy d) (h0 : 0 < d 0 0) (hw : 0 ≤ w ∧ w ≤ 12) (hn : 0 ≤ n ∧ n ≤ 4096) : jE (m_X41_fill t X (d 0 0 - 1) w n) (tpO t X (d 0 1) 256 (dPc d 4 n w 0 0 0)) := by
  have v1 := v.2.1
  rw [em_X41_fill]; unfold dm_X41_fill
  rw [h.1.2.2.1]
  by_cases c : d 0 1 = 256
  · rw [if_pos c]; exact jS_end (.inl ⟨c, rfl⟩)
  rw [if_neg c, t_isPt h v h0, Option.bind_some, if_neg n10, e_X41_within, if_pos (by omega), Option.bind_some, if_neg n10, e_X41_within, if_pos (by omega), Option.bind_some, if_neg n10, jst_in v1.1 (by omega), Option.bind_some]
  have h2 : tLs (jp t 1000 (X + 15) (d 0 1) w) X d := by
    obtain ⟨⟨g1, g2, g3, g4⟩, g5, g6, g7, g8, g9, g10⟩ := h
    have R : ∀ c a k, ¬ (c = 1000 ∧ a = X + 15 ∧ k = d 0 1) → jf (jp t 1000 (X + 15) (d 0 1) w) c a k = jf t c a k := fun c a k q => jf_neg q
    refine ⟨⟨by rw [R _ _ _ (by omega)]; exact g1, by rw [R _ _ _ (by omega)]; exact g2, by rw [R _ _ _ (by omega)]; exact g3, by rw [R _ _ _ (by omega)]; exact g4⟩, fun i o0 o1 => by rw [R _ _ _ (by omega)]; exact g5 i o0 o1, fun p p0 q1 => by rw [R _ _ _ (by omega), R _ _ _ (by omega)]; exact g6 p p0 q1, fun p p0 q1 => by rw [R _ _ _ (by omega)]; exact g7 p p0 q1, fun k k0 k1 => ?_, fun k k0 k1 hk => by rw [R _ _ _ (by omega)]; exact g9 k k0 k1 hk, fun l l0 l1 => by rw [R _ _ _ (by omega), R _ _ _ (by omega)]; exact g10 l l0 l1⟩
    have := g8 k k0 k1
    rw [R _ (X + 11) _ (by omega), R _ (X + 12) _ (by omega), R _ (X + 13) _ (by omega), R _ (X + 14) _ (by omega), R _ (X + 15) _ (by omega), R _ (X + 16) _ (by omega), R _ (X + 17) _ (by omega), R _ (X + 18) _ (by omega), R _ (X + 19) _ (by omega)]
    exact this
  obtain ⟨u, eu, hu, lu⟩ := t_added (S := 4) (n := n) (w := w) (l := 0) (c := 0) (z := 0) h2 v h0 (by omega) (by decide) (if_pos (.inr rfl)).symm (fun q => jf_pos ⟨rfl, rfl, rfl⟩) (fun q => by omega)
  rw [eu, Option.bind_some]
  exact jS_end (.inr ⟨by omega, rfl, hu, (tbW.rfl.jp (by omega)).trans lu⟩)
theorem t_laimed (h : tLs t X d) (v : vLy d) (h0 : 0 < d 0 0) (hS : S = 1 ∨ S = 2 ∨ S = 3) (hl : 0 ≤ l ∧ l < d 0 2) (hz : z = 0 ∨ z = 1) : jE (m_X41_aimed t X (d 0 0 - 1) S l c z) (tpO t X (d 0 1) 256 (dPc d S 0 0 l c z)) := by
  have v1 := v.2.1
  have v2 := v.2.2.1
  rw [em_X41_aimed]; unfold dm_X41_aimed
  rw [h.1.2.2.1]
  by_cases cc : d 0 1 = 256
  · rw [if_pos cc]; exact jS_end (.inl ⟨cc, rfl⟩)
  rw [if_neg cc, t_isPt h v h0, Option.bind_some, if_neg n10, e_X41_isLabel, h.1.2.2.2, W32_in (by omega) (by omega), if_pos (by omega), Option.bind_some, if_neg n10, jst_in v1.1 (by omega), Option.bind_some]
  obtain ⟨y1, Y1⟩ : ∃ y1, y1 = jp t 1000 (X + 16) (d 0 1) l := ⟨_, rfl⟩
  obtain ⟨f1, p1, -⟩ := jpF Y1
  rw [← Y1, f1 45 X 12 (by omega), h.1.2.2.1, jst_in v1.1 (by omega), Option.bind_some]
  obtain ⟨y2, Y2⟩ : ∃ y2, y2 = jp y1 1000 (X + 17) (d 0 1) c := ⟨_, rfl⟩
  obtain ⟨f2, p2, -⟩ := jpF Y2
  rw [← Y2, f2 45 X 12 (by omega), f1 45 X 12 (by omega), h.1.2.2.1, jst_in v1.1 (by omega), Option.bind_some, Wz_in hz]
  obtain ⟨y3, Y3⟩ : ∃ y3, y3 = jp y2 1002 (X + 18) (d 0 1) z := ⟨_, rfl⟩
  obtain ⟨f3, p3, -⟩ := jpF Y3
  rw [← Y3]
  have FY : ∀ c a k, ¬ ((c = 1000 ∧ (a = X + 16 ∨ a = X + 17) ∨ c = 1002 ∧ a = X + 18) ∧ k = d 0 1) → jf y3 c a k = jf t c a k := fun c a k q => by
    rw [f3 _ _ _ (by omega), f2 _ _ _ (by omega), f1 _ _ _ (by omega)]
  have h2 : tLs y3 X d := by
    obtain ⟨⟨g1, g2, g3, g4⟩, g5, g6, g7, g8, g9, g10⟩ := h
    refine ⟨⟨by rw [FY _ _ _ (by omega)]; exact g1, by rw [FY _ _ _ (by omega)]; exact g2, by rw [FY _ _ _ (by omega)]; exact g3, by rw [FY _ _ _ (by omega)]; exact g4⟩, fun i o0 o1 => by rw [FY _ _ _ (by omega)]; exact g5 i o0 o1, fun p p0 q1 => by rw [FY _ _ _ (by omega), FY _ _ _ (by omega)]; exact g6 p p0 q1, fun p p0 q1 => by rw [FY _ _ _ (by omega)]; exact g7 p p0 q1, fun k k0 k1 => ?_, fun k k0 k1 hk => by rw [FY _ _ _ (by omega)]; exact g9 k k0 k1 hk, fun l l0 l1 => by rw [FY _ _ _ (by omega), FY _ _ _ (by omega)]; exact g10 l l0 l1⟩
    have := g8 k k0 k1
    rw [FY _ (X + 11) _ (by omega), FY _ (X + 12) _ (by omega), FY _ (X + 13) _ (by omega), FY _ (X + 14) _ (by omega), FY _ (X + 15) _ (by omega), FY _ (X + 16) _ (by omega), FY _ (X + 17) _ (by omega), FY _ (X + 18) _ (by omega), FY _ (X + 19) _ (by omega)]
    exact this
  have gr : m_X41_greatest y3 S = some (if S = 1 then 8 else 4) := by
    rw [em_X41_greatest]; unfold dm_X41_greatest
    by_cases c : S = 1
    · rw [if_pos c, if_pos c]
    · rw [if_neg c, if_neg c]
  obtain ⟨u, eu, hu, lu⟩ := t_added (S := S) (n := 0) (w := 0) (l := l) (c := c) (z := z) h2 v h0 (by omega) (by omega) (if_neg (show ¬ (S = 0 ∨ S = 4) by omega)).symm (fun q => by omega) (fun q => ⟨by rw [f3 _ _ _ (by omega), f2 _ _ _ (by omega)]; exact p1, by rw [f3 _ _ _ (by omega)]; exact p2, p3⟩)
  rw [gr, Option.bind_some, eu, Option.bind_some]
  refine jS_end (.inr ⟨by omega, rfl, hu, tbW.trans ?_ lu⟩)
  rw [Y3, Y2, Y1]; exact ((tbW.rfl.jp (by omega)).jp (by omega)).jp (by omega)
theorem t_lcall (h : tLs t X d) (v : vLy d) (h0 : 0 < d 0 0) (hl : 0 ≤ l ∧ l < d 0 2) (hz : z = 0 ∨ z = 1) : jE (m_X41_call t X (d 0 0 - 1) l c z) (tpO t X (d 0 1) 256 (dPc d 1 0 0 l c z)) := by
  rw [em_X41_call]; unfold dm_X41_call
  exact jS_call (t_laimed h v h0 (.inl rfl) hl hz) fun r hr => jS_end hr
theorem t_lupper (h : tLs t X d) (v : vLy d) (h0 : 0 < d 0 0) (hl : 0 ≤ l ∧ l < d 0 2) (hz : z = 0 ∨ z = 1) : jE (m_X41_upper t X (d 0 0 - 1) l c z) (tpO t X (d 0 1) 256 (dPc d 2 0 0 l c z)) := by
  rw [em_X41_upper]; unfold dm_X41_upper
  exact jS_call (t_laimed h v h0 (.inr (.inl rfl)) hl hz) fun r hr => jS_end hr
theorem t_lnear (h : tLs t X d) (v : vLy d) (h0 : 0 < d 0 0) (hl : 0 ≤ l ∧ l < d 0 2) : jE (m_X41_near t X (d 0 0 - 1) l c) (tpO t X (d 0 1) 256 (dPc d 3 0 0 l c 0)) := by
  rw [em_X41_near]; unfold dm_X41_near
  exact jS_call (t_laimed h v h0 (.inr (.inr rfl)) hl (.inl rfl)) fun r hr => jS_end hr
theorem t_llabel (h : tLs t X d) (v : vLy d) : jE (m_X41_label t X) (tpO t X (d 0 2) 64 (dLb d)) := by
  have v2 := v.2.2.1
  rw [em_X41_label]; unfold dm_X41_label
  rw [h.1.2.2.2]
  by_cases cc : d 0 2 = 64
  · rw [if_pos cc]; exact jS_end (.inl ⟨cc, rfl⟩)
  rw [if_neg cc, jst_in v2.1 (by omega), Option.bind_some]
  obtain ⟨y1, Y1⟩ : ∃ y1, y1 = jp t 1000 (X + 23) (d 0 2) (-1) := ⟨_, rfl⟩
  obtain ⟨f1, p1, -⟩ := jpF Y1
  rw [← Y1, f1 45 X 25 (by omega), h.1.2.2.2, W32_in (by omega) (by omega)]
  obtain ⟨y, E_y⟩ : ∃ y, y = jp y1 45 X 25 (d 0 2 + 1) := ⟨_, rfl⟩
  obtain ⟨f_y, p_y, -⟩ := jpF E_y
  rw [jls_e, ← E_y]
  rw [p_y, W32_in (by omega) (by omega)]
  have FY : ∀ c a k, ¬ (c = 1000 ∧ a = X + 23 ∧ k = d 0 2) → ¬ (c = 45 ∧ a = X ∧ k = 25) → jf y c a k = jf t c a k := fun c a k q1 q2 => by
    rw [f_y _ _ _ (by omega), f1 _ _ _ (by omega)]
  refine jS_end (.inr ⟨by omega, by show d 0 2 + 1 - 1 = d 0 2; omega, ?_, by rw [E_y, Y1]; exact (tbW.rfl.jp (by omega)).jp (by omega)⟩)
  obtain ⟨⟨h1, h2, h3, h4⟩, h5, h6, h7, h8, h9, h10⟩ := h
  have H : ∀ f k, ¬ f = 0 → ¬ f = 12 → ¬ f = 13 → dLb d f k = d f k := fun f k h0 h1 h2 => dLb_no (by omega) (by omega)
  have N1 : dLb d 0 1 = d 0 1 := dLb_no (by omega) (by omega)
  refine ⟨⟨by rw [FY _ _ _ (by omega) (by omega), dLb_no (by omega) (by omega)]; exact h1, by rw [FY _ _ _ (by omega) (by omega), dLb_no (by omega) (by omega)]; exact h2, by rw [FY _ _ _ (by omega) (by omega), N1]; exact h3, by rw [dLb_0]; exact p_y⟩, fun i o0 o1 => by rw [FY _ _ _ (by omega) (by omega), H _ _ (by decide) (by decide) (by decide)]; exact h5 i o0 o1, fun p p0 q1 => ?_, fun p p0 q1 => by rw [FY _ _ _ (by omega) (by omega)]; exact h7 p p0 q1, fun k k0 k1 => ?_, fun k k0 k1 hk => ?_, fun l l0 l1 => ?_⟩
  · rw [dLb_no (by omega) (by omega)] at q1
    rw [FY _ _ _ (by omega) (by omega), FY _ _ _ (by omega) (by omega), H 1 _ (by decide) (by decide) (by decide), H 2 _ (by decide) (by decide) (by decide)]; exact h6 p p0 q1
  · rw [N1] at k1
    have := h8 k k0 k1
    unfold mvK at this ⊢
    rw [H 5 _ (by decide) (by decide) (by decide), H 6 _ (by decide) (by decide) (by decide), H 7 _ (by decide) (by decide) (by decide), H 8 _ (by decide) (by decide) (by decide), H 9 _ (by decide) (by decide) (by decide), H 10 _ (by decide) (by decide) (by decide), H 11 _ (by decide) (by decide) (by decide), H 15 _ (by decide) (by decide) (by decide), H 16 _ (by decide) (by decide) (by decide), FY _ (X + 11) _ (by omega) (by omega), FY _ (X + 12) _ (by omega) (by omega), FY _ (X + 13) _ (by omega) (by omega), FY _ (X + 14) _ (by omega) (by omega), FY _ (X + 15) _ (by omega) (by omega), FY _ (X + 16) _ (by omega) (by omega), FY _ (X + 17) _ (by omega) (by omega), FY _ (X + 18) _ (by omega) (by omega), FY _ (X + 19) _ (by omega) (by omega)]
    exact this
  · rw [FY _ _ _ (by omega) (by omega)]
    refine h9 k k0 k1 fun q => hk ⟨by rw [N1]; exact q.1, ?_⟩
    unfold mvK; rw [H 5 _ (by decide) (by decide) (by decide)]; exact q.2
  · rw [dLb_0] at l1
    by_cases c : l = d 0 2
    · rw [c, dLb_12, f_y _ _ _ (by omega)]; exact ⟨p1, fun q => absurd rfl q⟩
    · rw [FY _ _ _ (by omega) (by omega), FY _ _ _ (by omega) (by omega), dLb_no (f := 12) (by omega) (by omega), dLb_no (f := 13) (by omega) (by omega)]; exact h10 l l0 (by omega)
theorem t_lput (h : tLs t X d) (v : vLy d) (hl : 0 ≤ l ∧ l < d 0 2) (hk : 0 ≤ k ∧ k < d 0 1) (ha : 0 ≤ a ∧ a ≤ if d 5 k = 0 then d 6 k else 1) : ∃ u, m_X41_put t X l k a = some (u, 1) ∧ tLs u X (dLp d l k a) ∧ tbW X t u := by
  have v1 := v.2.1
  have v2 := v.2.2.1
  obtain ⟨⟨q1, q1'⟩, q2, q3, q4, -⟩ := h.2.2.2.2.1 k hk.1 hk.2
  have key : m_X41_put t X l k a = (jst t 1000 (X + 23) 64 l k).bind fun s2 => (jst s2 1000 (X + 24) 64 l a).bind fun s3 => some (s3, Wz 1) := by
    rw [em_X41_put]; unfold dm_X41_put
    rw [e_X41_isLabel, h.1.2.2.2, W32_in (by omega) (by omega), if_pos (by omega), Option.bind_some, if_neg n10, e_X41_isPiece, h.1.2.2.1, W32_in (by omega) (by omega), if_pos (by omega), Option.bind_some, if_neg n10, jlt_in hk.1 (by omega), Option.bind_some, q1]
    by_cases c : d 5 k = 0
    · rw [if_pos c] at ha
      rw [if_pos c, jlt_in hk.1 (by omega), Option.bind_some, q4 (.inl c), eu_X41_put_37]; unfold du_X41_put_37
      rw [e_X41_within, if_pos (by omega), Option.bind_some, if_neg n10]
    · rw [if_neg c] at ha
      rw [if_neg c, eu_X41_put_37]; unfold du_X41_put_37
      rw [e_X41_within, if_pos (by omega), Option.bind_some, if_neg n10]
  rw [key, jst_in hl.1 (by omega), Option.bind_some, jst_in hl.1 (by omega), Option.bind_some, Wz_1]
  obtain ⟨y1, Y1⟩ : ∃ y1, y1 = jp t 1000 (X + 23) l k := ⟨_, rfl⟩
  obtain ⟨f1, p1, -⟩ := jpF Y1
  obtain ⟨y, Y⟩ : ∃ y, y = jp y1 1000 (X + 24) l a := ⟨_, rfl⟩
  obtain ⟨f2, p2, -⟩ := jpF Y
  rw [← Y1, ← Y]
  have FY : ∀ c a k, ¬ (c = 1000 ∧ (a = X + 23 ∨ a = X + 24) ∧ k = l) → jf y c a k = jf t c a k := fun c a k q => by rw [f2 _ _ _ (by omega), f1 _ _ _ (by omega)]
  refine ⟨y, rfl, ?_, by rw [Y, Y1]; exact (tbW.rfl.jp (by omega)).jp (by omega)⟩
  obtain ⟨⟨h1, h2, h3, h4⟩, h5, h6, h7, h8, h9, h10⟩ := h
  have H : ∀ f x, ¬ f = 12 → ¬ f = 13 → dLp d l k a f x = d f x := fun f k h1 h2 => dLp_no (by omega)
  refine ⟨⟨by rw [FY _ _ _ (by omega), H _ _ (by decide) (by decide)]; exact h1, by rw [FY _ _ _ (by omega), H _ _ (by decide) (by decide)]; exact h2, by rw [FY _ _ _ (by omega), H _ _ (by decide) (by decide)]; exact h3, by rw [FY _ _ _ (by omega), H _ _ (by decide) (by decide)]; exact h4⟩, fun i o0 o1 => by rw [FY _ _ _ (by omega), H _ _ (by decide) (by decide)]; exact h5 i o0 o1, fun p p0 q1 => ?_, fun p p0 q1 => by rw [FY _ _ _ (by omega)]; exact h7 p p0 q1, fun k k0 k1 => ?_, fun i k0 k1 hi => ?_, fun x l0 l1 => ?_⟩
  · rw [H _ _ (by decide) (by decide)] at q1
    rw [FY _ _ _ (by omega), FY _ _ _ (by omega), H 1 _ (by decide) (by decide), H 2 _ (by decide) (by decide)]; exact h6 p p0 q1
  · rw [H _ _ (by decide) (by decide)] at k1
    have := h8 k k0 k1
    unfold mvK at this ⊢
    rw [H 5 _ (by decide) (by decide), H 6 _ (by decide) (by decide), H 7 _ (by decide) (by decide), H 8 _ (by decide) (by decide), H 9 _ (by decide) (by decide), H 10 _ (by decide) (by decide), H 11 _ (by decide) (by decide), H 15 _ (by decide) (by decide), H 16 _ (by decide) (by decide), FY _ (X + 11) _ (by omega), FY _ (X + 12) _ (by omega), FY _ (X + 13) _ (by omega), FY _ (X + 14) _ (by omega), FY _ (X + 15) _ (by omega), FY _ (X + 16) _ (by omega), FY _ (X + 17) _ (by omega), FY _ (X + 18) _ (by omega), FY _ (X + 19) _ (by omega)]
    exact this
  · rw [FY _ _ _ (by omega)]
    refine h9 i k0 k1 fun q => hi ⟨by rw [H _ _ (by decide) (by decide)]; exact q.1, ?_⟩
    unfold mvK; rw [H 5 _ (by decide) (by decide)]; exact q.2
  · rw [H _ _ (by decide) (by decide)] at l1
    by_cases c : x = l
    · rw [c, dLp_12, dLp_13, f2 _ _ _ (by omega)]; exact ⟨p1, fun _ => p2⟩
    · rw [FY _ _ _ (by omega), FY _ _ _ (by omega), dLp_no (f := 12) (by omega), dLp_no (f := 13) (by omega)]; exact h10 x l0 l1
end jTops
