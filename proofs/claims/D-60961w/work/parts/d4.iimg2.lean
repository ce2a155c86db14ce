/-! the component's image: wrong segments -/
section jIimg2
variable {s t u w : jS} {B N R n p f a b x y e k z v d lo m : Int} {g g' : Int → Int} {i j : Int → Int → Int → Int} {L : List (Prop × Int × Int)} {c : Prop}
/-- bounds of an image -/
def vIm (i : Int → Int → Int → Int) : Prop := (∀ x, 0 ≤ x → x < 3 → (i 1 x 0 = 0 ∨ i 1 x 0 = 1) ∧ (¬ i 1 x 0 = 0 → 0 ≤ i 1 x 1 ∧ i 1 x 1 < 131072 ∧ 0 ≤ i 1 x 2 ∧ i 1 x 2 ≤ 4096 ∧ 0 ≤ i 1 x 3 ∧ i 1 x 3 ≤ 32768 ∧ ∀ k, 0 ≤ k → k < i 1 x 2 → 0 ≤ i 0 x k ∧ i 0 x k < 256)) ∧ jin (i 2 0 0) ∧ pP2 (i 2 1 0) ∧ ∀ k, 0 ≤ k → k < 2048 → i 3 k 0 = 0 ∨ i 3 k 0 = 1
def hT (i : Int → Int → Int → Int) : Prop := ¬ i 1 0 0 = 0 ∧ 0 < i 1 0 2 ∧ i 1 0 2 % 2 = 0
def enI (i : Int → Int → Int → Int) (x : Int) : Int := i 1 x 1 + i 1 x 2 + i 1 x 3
def wI (i : Int → Int → Int → Int) (x : Int) : Prop := i 1 x 0 = 0 ∨ enI i x ≤ 131072
def mI (i : Int → Int → Int → Int) (x y : Int) : Prop := ¬ i 1 x 0 = 0 ∧ ¬ i 1 y 0 = 0 ∧ i 1 x 1 < enI i y ∧ i 1 y 1 < enI i x ∧ i 1 x 1 < enI i x ∧ i 1 y 1 < enI i y
theorem cIm.tx (h : cIm u b i) : jf u 28 ((b + 1) + 2 + 2 * 0) 2 = i 1 0 0 ∧ (¬ i 1 0 0 = 0 → jf u 28 ((b + 1) + 2 + 2 * 0) 3 = i 1 0 1 ∧ jf u 28 ((b + 1) + 2 + 2 * 0) 4 = i 1 0 2) := ⟨(h.1 0 (by omega) (by omega)).1, fun q => ⟨((h.1 0 (by omega) (by omega)).2 q).1, ((h.1 0 (by omega) (by omega)).2 q).2.1⟩⟩
theorem i_text (T : jTt u 43 b) : m_X23_text u b = some (vsg b 0) ∧ 0 ≤ vsg b 0 ∧ jK u (vsg b 0) = 28 := by
  have := T44 ((T43 T).2.1.2.2.2.2 0 (by omega) (by omega)).2
  exact ⟨by rw [e_X23_text]; rfl, this.1.1, this.1.2⟩
theorem i_hasText (T : jTt u 43 b) (h : cIm u b i) (v : vIm i) : ∃ r, m_X23_hasText u b = some r ∧ (r = 1 ∧ hT i ∨ r = 0 ∧ ¬ hT i) := by
  obtain ⟨t1, t2, t3⟩ := i_text T
  obtain ⟨h1, h2⟩ := h.1 0 (by omega) (by omega)
  rw [em_X23_hasText]; unfold dm_X23_hasText hT
  rw [t1, Option.bind_some, jrd_in t2 t3, Option.bind_some, h1, Wz_0, Wz_1]
  by_cases c1 : i 1 0 0 = 0
  · rw [if_pos c1]; exact ⟨0, rfl, .inr ⟨rfl, fun q => q.1 c1⟩⟩
  · obtain ⟨a1, a2, a3, a4⟩ := h2 c1
    have := (v.1 0 (by omega) (by omega)).2 c1
    rw [if_neg c1, Option.bind_some, jrd_in t2 t3, Option.bind_some, a2]
    by_cases c2 : 0 < i 1 0 2
    · rw [if_pos c2, Option.bind_some, jrd_in t2 t3, Option.bind_some, a2, jdv_in (by decide), Option.bind_some, I_rem_n (by omega) (by omega) (by omega) (by omega)]
      by_cases c3 : i 1 0 2 % 2 = 0
      · rw [if_pos c3]; exact ⟨1, rfl, .inl ⟨rfl, c1, c2, c3⟩⟩
      · rw [if_neg c3]; exact ⟨0, rfl, .inr ⟨rfl, fun q => c3 q.2.2⟩⟩
    · rw [if_neg c2]; exact ⟨0, rfl, .inr ⟨rfl, fun q => c2 q.2.1⟩⟩
theorem i_end (h : cIm u b i) (v : vIm i) (x0 : 0 ≤ x) (x1 : x < 3) (c : ¬ i 1 x 0 = 0) : m_X24_end u (vsg b x) = some (enI i x) ∧ 0 ≤ enI i x := by
  obtain ⟨a1, a2, a3, -⟩ := (h.1 x x0 x1).2 c
  have := (v.1 x x0 x1).2 c
  refine ⟨?_, by unfold enI; omega⟩
  rw [e_X24_end, a1, a2, a3, W32_in (z := i 1 x 1 + i 1 x 2) (by omega) (by omega), W32_in (by omega) (by omega)]; rfl
/-- what it changes -/
def fWs (u t : jS) (b : Int) : Prop := jFx u t b 1 ∧ ∀ c a k, ¬ (c = 27 ∧ a = b ∧ (k = 5 ∨ k = 6)) → jf t c a k = jf u c a k
theorem fWs.rfl : fWs u u b := ⟨jFx.rfl, fun _ _ _ _ => Eq.refl _⟩
theorem fWs.jp {k v : Int} (h : fWs u t b) (e : k = 5 ∨ k = 6) : fWs u (jp t 27 b k v) b := ⟨h.1.jp (by rcases e with rfl | rfl <;> decide) (by omega) (by omega), fun c' a' k' p => by rw [jf_jp, if_neg (by omega)]; exact h.2 c' a' k' p⟩
theorem cIm.ws (h : cIm u b i) (k : fWs u t b) : cIm t b i := by
  obtain ⟨h1, h2, h3, h4, h5⟩ := h
  refine ⟨fun x x0 x1 => (h1 x x0 x1).keep fun c a k' a0 a1 => k.2 c a k' (by unfold vsg at a0; omega), ?_, ?_, fun j j0 j1 => ?_, fun x x0 x1 => by rw [k.2 _ _ _ (by omega)]; exact h5 x x0 x1⟩
  · rw [k.2 _ _ _ (by omega)]; exact h2
  · rw [k.2 _ _ _ (by omega)]; exact h3
  · rw [k.2 _ _ _ (by omega)]; exact h4 j j0 j1
theorem i_within (h : cIm u b i) (v : vIm i) : jE (m_X23_isWithin u b) fun q => fWs u q.1 b ∧ (q.2 = 1 ∧ (∀ y, 0 ≤ y → y < 3 → wI i y) ∨ q.2 = 0 ∧ ∃ x, 0 ≤ x ∧ x < 3 ∧ ¬ wI i x ∧ (∀ y, 0 ≤ y → y < x → wI i y) ∧ jf q.1 27 b 5 = x) := by
  rw [em_X23_isWithin]; unfold dm_X23_isWithin
  rw [eu_X23_isWithin_2]; unfold du_X23_isWithin_2
  refine jS_for (fun x t => fWs u t b ∧ ∀ y, 0 ≤ y → y < x → wI i y) (fun x => [b, x]) 0 3 (by omega) ⟨fWs.rfl, fun y y0 y1 => by omega⟩ (fun x t x0 x1 ⟨g1, g2⟩ => ?_) (fun t ⟨g1, g2⟩ => ?_)
  · show jE (b_X23_isWithin_2 t b x) _
    unfold b_X23_isWithin_2
    rw [if_pos x1]
    simp only [jls]
    have k1 : fWs u (jp t 27 b 5 x) b := g1.jp (.inl rfl)
    have H := h.ws k1
    have e40 : u_X23_isWithin_40 (jp t 27 b 5 x) b x = some (.inl (jp t 27 b 5 x, [b, x + 1])) := by
      rw [eu_X23_isWithin_40]; unfold du_X23_isWithin_40
      rw [W32_in (by omega) (by omega)]
    have e5 : jf (jp t 27 b 5 x) 27 b 5 = x := jf_pos ⟨rfl, rfl, rfl⟩
    have hx := H.1 x x0 x1
    generalize jp t 27 b 5 x = t' at k1 H e40 e5 hx ⊢
    have nx : wI i x → ∀ y, 0 ≤ y → y < x + 1 → wI i y := fun q y y0 y1 => by
      by_cases c : y = x
      · subst c; exact q
      · exact g2 y y0 (by omega)
    rw [jix_in x0 x1, Option.bind_some, show (b + 1) + 2 + 2 * x = vsg b x from rfl, hx.1, e40]
    by_cases c : i 1 x 0 = 0
    · rw [if_pos c]
      exact jS_end ⟨rfl, k1, nx (.inl c)⟩
    · rw [if_neg c, Option.bind_some, (i_end H v x0 x1 c).1, Option.bind_some]
      by_cases c2 : 131072 < enI i x
      · rw [if_pos c2, Wz_0]
        exact jS_inr (jS_end ⟨k1, .inr ⟨rfl, x, x0, x1, fun q => q.elim c (fun z => by omega), g2, e5⟩⟩)
      · rw [if_neg c2]
        exact jS_end ⟨rfl, k1, nx (.inr (by omega))⟩
  · show jE (b_X23_isWithin_2 t b 3) _
    unfold b_X23_isWithin_2
    rw [if_neg (by omega), Wz_1]
    exact jS_inr (jS_end ⟨g1, .inl ⟨rfl, g2⟩⟩)
theorem i_meets (T : jTt u 43 b) (h : cIm u b i) (v : vIm i) (x0 : 0 ≤ x) (x1 : x < 3) (y0 : 0 ≤ y) (y1 : y < 3) : ∃ r, m_X24_meets u (vsg b x) (vsg b y) = some r ∧ (r = 1 ∧ mI i x y ∨ r = 0 ∧ ¬ mI i x y) := by
  have Ty := ((T43 T).2.1.2.2.2.2 y y0 y1).2
  have ty := T44 Ty
  have hx := h.1 x x0 x1
  have hy := h.1 y y0 y1
  rw [em_X24_meets]; unfold dm_X24_meets mI
  rw [hx.1, Wz_0, Wz_1]
  by_cases c1 : i 1 x 0 = 0
  · rw [if_pos c1]; exact ⟨0, rfl, .inr ⟨rfl, fun q => q.1 c1⟩⟩
  rw [if_neg c1, jrd_in ty.1.1 ty.1.2, Option.bind_some, hy.1]
  by_cases c2 : i 1 y 0 = 0
  · rw [if_pos c2]; exact ⟨0, rfl, .inr ⟨rfl, fun q => q.2.1 c2⟩⟩
  obtain ⟨a1, -⟩ := hx.2 c1
  obtain ⟨b1, -⟩ := hy.2 c2
  rw [if_neg c2, jct_in Ty, (i_end h v y0 y1 c2).1, Option.bind_some, a1]
  by_cases c3 : i 1 x 1 < enI i y
  · rw [if_pos c3, jrd_in ty.1.1 ty.1.2, Option.bind_some, (i_end h v x0 x1 c1).1, Option.bind_some, b1]
    by_cases c4 : i 1 y 1 < enI i x
    · rw [if_pos c4, Option.bind_some]
      by_cases c5 : i 1 x 1 < enI i x
      · rw [if_pos c5, Option.bind_some, Option.bind_some]
        by_cases c6 : i 1 y 1 < enI i y
        · rw [if_pos c6]; exact ⟨1, rfl, .inl ⟨rfl, c1, c2, c3, c4, c5, c6⟩⟩
        · rw [if_neg c6]; exact ⟨0, rfl, .inr ⟨rfl, fun q => c6 q.2.2.2.2.2⟩⟩
      · rw [if_neg c5]; exact ⟨0, rfl, .inr ⟨rfl, fun q => c5 q.2.2.2.2.1⟩⟩
    · rw [if_neg c4]; exact ⟨0, rfl, .inr ⟨rfl, fun q => c4 q.2.2.2.1⟩⟩
  · rw [if_neg c3]; exact ⟨0, rfl, .inr ⟨rfl, fun q => c3 q.2.2.1⟩⟩
/-- the pair that meets first -/
def m1st (i : Int → Int → Int → Int) (x y : Int) : Prop := x = 0 ∧ y = 1 ∧ mI i 0 1 ∨ x = 0 ∧ y = 2 ∧ ¬ mI i 0 1 ∧ mI i 0 2 ∨ x = 1 ∧ y = 2 ∧ ¬ mI i 0 1 ∧ ¬ mI i 0 2 ∧ mI i 1 2
theorem i_apart (T : jTt u 43 b) (h : cIm u b i) (v : vIm i) : jE (m_X23_areApart u b) fun q => fWs u q.1 b ∧ (q.2 = 1 ∧ (¬ mI i 0 1 ∧ ¬ mI i 0 2 ∧ ¬ mI i 1 2) ∨ q.2 = 0 ∧ ∃ x y, m1st i x y ∧ jf q.1 27 b 5 = x ∧ jf q.1 27 b 6 = y) := by
  rw [em_X23_areApart]; unfold dm_X23_areApart
  -- one pair
  have pr : ∀ {t x y}, fWs u t b → 0 ≤ x → x < 3 → 0 ≤ y → y < 3 → ∃ t', fWs u t' b ∧ jf t' 27 b 5 = x ∧ jf t' 27 b 6 = y ∧ ((mI i x y ∧ b_X23_areApart_11 t b x y = jinr (jinr (some (t', 0)))) ∨ (¬ mI i x y ∧ b_X23_areApart_11 t b x y = some (.inl (t', [b, x, y + 1])))) := fun {t x y} ht x0 x1 y0 y1 => by
    have k2 : fWs u (jp (jp t 27 b 5 x) 27 b 6 y) b := (ht.jp (.inl rfl)).jp (.inr rfl)
    have H := h.ws k2
    have TT : jTt (jp (jp t 27 b 5 x) 27 b 6 y) 43 b := T.ext k2.1.2
    refine ⟨_, k2, by (repeat (first | rw [jf_neg (by omega)] | rw [jf_pos (by omega)] | rw [ou_neg (by omega)] | rw [ou_pos (by omega)])), by (repeat (first | rw [jf_neg (by omega)] | rw [jf_pos (by omega)] | rw [ou_neg (by omega)] | rw [ou_pos (by omega)])), ?_⟩
    obtain ⟨r, er, hr⟩ := i_meets TT H v x0 x1 y0 y1
    unfold b_X23_areApart_11
    rw [if_pos y1]
    simp only [jls]
    rw [jix_in x0 x1, Option.bind_some, jix_in y0 y1, Option.bind_some, show (b + 1) + 2 + 2 * x = vsg b x from rfl, show (b + 1) + 2 + 2 * y = vsg b y from rfl, er, Option.bind_some, W32_in (by omega) (by omega), Wz_0]
    rcases hr with ⟨r1, r2⟩ | ⟨r1, r2⟩
    · exact .inl ⟨r2, by rw [if_neg (by omega)]⟩
    · exact .inr ⟨r2, by rw [if_pos r1]⟩
  have en : ∀ t x, 0 ≤ x → x < 3 → b_X23_areApart_11 t b x 3 = jinr (some (.inl (t, [b, x + 1]))) := fun t x x0 x1 => by
    unfold b_X23_areApart_11
    rw [if_neg (by omega), eu_X23_areApart_52]; unfold du_X23_areApart_52
    rw [W32_in (by omega) (by omega)]
  have op : ∀ t x, 0 ≤ x → x < 3 → b_X23_areApart_2 t b x = jlpW (jc3 b_X23_areApart_11) [b, x, x + 1] t := fun t x x0 x1 => by
    unfold b_X23_areApart_2
    rw [if_pos x1]
    simp only [jlet]
    rw [W32_in (by omega) (by omega), eu_X23_areApart_11]; rfl
  rw [eu_X23_areApart_2]; unfold du_X23_areApart_2
  rw [jlpW_st]
  show jE ((b_X23_areApart_2 u b 0).bind _) _
  rw [op u 0 (by omega) (by omega), show (0 : Int) + 1 = 1 from rfl]
  obtain ⟨t1, k1, s5, s6, h1⟩ := pr (t := u) fWs.rfl (x := 0) (y := 1) (by omega) (by omega) (by omega) (by omega)
  rcases h1 with ⟨m1, e1⟩ | ⟨m1, e1⟩
  · rw [jlpW_r (C := jc3 b_X23_areApart_11) (show jc3 b_X23_areApart_11 [b, 0, 1] u = _ from e1)]
    exact jS_end ⟨k1, .inr ⟨rfl, 0, 1, .inl ⟨rfl, rfl, m1⟩, s5, s6⟩⟩
  rw [jlpW_l (C := jc3 b_X23_areApart_11) (show jc3 b_X23_areApart_11 [b, 0, 1] u = _ from e1), show (1 : Int) + 1 = 2 from rfl]
  obtain ⟨t2, k2, s5, s6, h2⟩ := pr k1 (x := 0) (y := 2) (by omega) (by omega) (by omega) (by omega)
  rcases h2 with ⟨m2, e2⟩ | ⟨m2, e2⟩
  · rw [jlpW_r (C := jc3 b_X23_areApart_11) (show jc3 b_X23_areApart_11 [b, 0, 2] t1 = _ from e2)]
    exact jS_end ⟨k2, .inr ⟨rfl, 0, 2, .inr (.inl ⟨rfl, rfl, m1, m2⟩), s5, s6⟩⟩
  rw [jlpW_l (C := jc3 b_X23_areApart_11) (show jc3 b_X23_areApart_11 [b, 0, 2] t1 = _ from e2), show (2 : Int) + 1 = 3 from rfl, jlpW_r (C := jc3 b_X23_areApart_11) (show jc3 b_X23_areApart_11 [b, 0, 3] t2 = _ from en t2 0 (by omega) (by omega)), show (0 : Int) + 1 = 1 from rfl, Option.bind_some]
  show jE (jlpW (jc2 b_X23_areApart_2) [b, 1] t2) _
  rw [jlpW_st]
  show jE ((b_X23_areApart_2 t2 b 1).bind _) _
  rw [op t2 1 (by omega) (by omega), show (1 : Int) + 1 = 2 from rfl]
  obtain ⟨t3, k3, s5, s6, h3⟩ := pr k2 (x := 1) (y := 2) (by omega) (by omega) (by omega) (by omega)
  rcases h3 with ⟨m3, e3⟩ | ⟨m3, e3⟩
  · rw [jlpW_r (C := jc3 b_X23_areApart_11) (show jc3 b_X23_areApart_11 [b, 1, 2] t2 = _ from e3)]
    exact jS_end ⟨k3, .inr ⟨rfl, 1, 2, .inr (.inr ⟨rfl, rfl, m1, m2, m3⟩), s5, s6⟩⟩
  rw [jlpW_l (C := jc3 b_X23_areApart_11) (show jc3 b_X23_areApart_11 [b, 1, 2] t2 = _ from e3), show (2 : Int) + 1 = 3 from rfl, jlpW_r (C := jc3 b_X23_areApart_11) (show jc3 b_X23_areApart_11 [b, 1, 3] t3 = _ from en t3 1 (by omega) (by omega)), show (1 : Int) + 1 = 2 from rfl, Option.bind_some]
  show jE (jlpW (jc2 b_X23_areApart_2) [b, 2] t3) _
  rw [jlpW_st]
  show jE ((b_X23_areApart_2 t3 b 2).bind _) _
  rw [op t3 2 (by omega) (by omega), show (2 : Int) + 1 = 3 from rfl, jlpW_r (C := jc3 b_X23_areApart_11) (show jc3 b_X23_areApart_11 [b, 2, 3] t3 = _ from en t3 2 (by omega) (by omega)), show (2 : Int) + 1 = 3 from rfl, Option.bind_some]
  show jE (jlpW (jc2 b_X23_areApart_2) [b, 3] t3) _
  rw [jlpW_r (C := jc2 b_X23_areApart_2) (show jc2 b_X23_areApart_2 [b, 3] t3 = jinr (some (t3, Wz 1)) from by
    show b_X23_areApart_2 t3 b 3 = _
    unfold b_X23_areApart_2
    rw [if_neg (by omega)]), Wz_1]
  exact jS_end ⟨k3, .inl ⟨rfl, m1, m2, m3⟩⟩
theorem fWs.trans (h : fWs s t b) (g : fWs t u b) : fWs s u b := ⟨h.1.trans g.1, fun c a k p => (g.2 c a k p).trans (h.2 c a k p)⟩
theorem i_wseg (T : jTt u 43 b) (h : cIm u b i) (v : vIm i) : jE (m_X23_wrongSegments u b) fun q => fWs u q.1 b ∧ (¬ hT i ∧ q.2 = 1 ∨ hT i ∧ q.2 = 2 ∧ (∃ x, 0 ≤ x ∧ x < 3 ∧ ¬ wI i x ∧ (∀ y, 0 ≤ y → y < x → wI i y) ∧ jf q.1 27 b 5 = x) ∨ hT i ∧ (∀ y, 0 ≤ y → y < 3 → wI i y) ∧ q.2 = 3 ∧ (∃ x y, m1st i x y ∧ jf q.1 27 b 5 = x ∧ jf q.1 27 b 6 = y) ∨ hT i ∧ (∀ y, 0 ≤ y → y < 3 → wI i y) ∧ (¬ mI i 0 1 ∧ ¬ mI i 0 2 ∧ ¬ mI i 1 2) ∧ q.2 = 0) := by
  rw [em_X23_wrongSegments]; unfold dm_X23_wrongSegments
  obtain ⟨r, er, hr⟩ := i_hasText T h v
  rw [er, Option.bind_some]
  rcases hr with ⟨r1, r2⟩ | ⟨r1, r2⟩
  rotate_left
  · rw [if_pos r1]; exact jS_end ⟨fWs.rfl, .inl ⟨r2, rfl⟩⟩
  rw [if_neg (by omega)]
  refine jS_call (i_within h v) fun q ⟨k1, hq⟩ => ?_
  rcases hq with ⟨q1, q2⟩ | ⟨q1, q2⟩
  rotate_left
  · rw [if_pos q1]; exact jS_end ⟨k1, .inr (.inl ⟨r2, rfl, q2⟩)⟩
  rw [if_neg (by omega)]
  refine jS_call (i_apart (T.ext k1.1.2) (h.ws k1) v) fun q' ⟨k2, hq'⟩ => ?_
  rcases hq' with ⟨p1, p2⟩ | ⟨p1, p2⟩
  · rw [if_neg (by omega)]; exact jS_end ⟨k1.trans k2, .inr (.inr (.inr ⟨r2, q2, p2, rfl⟩))⟩
  · rw [if_pos p1]; exact jS_end ⟨k1.trans k2, .inr (.inr (.inl ⟨r2, q2, rfl, p2⟩))⟩
end jIimg2
