/-! the component's image: marks that are wrong, how many -/
section jIimg4
variable {s t u w : jS} {B N R n p f a b x y e k z v d lo m S : Int} {g g' : Int → Int} {i j : Int → Int → Int → Int} {L : List (Prop × Int × Int)} {c : Prop} {F : Int → Int}
/-- a mark that is good -/
def gmI (i : Int → Int → Int → Int) (k : Int) : Prop := i 3 k 0 = 0 ∨ k < i 1 0 2 / 2 ∧ (shI i k = true ∨ 2 * k + 4 ≤ i 1 0 2 ∧ i 3 (k + 1) 0 = 0)
theorem i_isShort (T : jTt u 43 b) (h : cIm u b i) (v : vIm i) (c : ¬ i 1 0 0 = 0) (k0 : 0 ≤ k) (k1 : 2 * k < i 1 0 2) : m_X23_isShort u b k = some (if shI i k = true then 1 else 0) := by
  obtain ⟨t1, t2, t3⟩ := i_text T
  have T4 := T44 ((T43 T).2.1.2.2.2.2 0 (by omega) (by omega)).2
  obtain ⟨a1, a2, a3, a4⟩ := (h.1 0 (by omega) (by omega)).2 c
  have hv := (v.1 0 (by omega) (by omega)).2 c
  have hb := hv.2.2.2.2.2.2 (2 * k) (by omega) k1
  have e3 : I_and (sb (i 0 0 (2 * k))) 3 = i 0 0 (2 * k) % 4 := by
    rw [I_and_3]; unfold sb; split <;> omega
  rw [em_X23_isShort]; unfold dm_X23_isShort
  rw [t1, Option.bind_some, jrd_in t2 t3, Option.bind_some, T4.2.1, W32_in (by omega) (by omega)]
  have hl : jld u 1001 (vsg b 0 + 1) (2 * k) = some (jf u 1001 (vsg b 0 + 1) (2 * k)) := by
    unfold jld; exact if_pos ⟨T4.2.2.1, T4.2.2.2.1, by omega, by rw [T4.2.2.2.2]; omega⟩
  rw [hl, Option.bind_some, a4 (2 * k) (by omega) k1, e3, Wz_0, Wz_1]
  unfold shI
  by_cases q : i 0 0 (2 * k) % 4 = 3
  · rw [if_pos q, if_neg (by simp [q])]
  · rw [if_neg q, if_pos (by simp [q])]
theorem i_length (T : jTt u 43 b) (h : cIm u b i) (v : vIm i) (c : ¬ i 1 0 0 = 0) (k0 : 0 ≤ k) (k1 : 2 * k < i 1 0 2) : m_X23_length u b k = some (if shI i k = true then 2 else 4) := by
  rw [em_X23_length]; unfold dm_X23_length
  rw [i_isShort T h v c k0 k1, Option.bind_some]
  by_cases q : shI i k = true
  · rw [if_pos q, if_neg (by decide), if_pos q]
  · rw [if_neg q, if_pos rfl, if_neg q]
theorem i_places (T : jTt u 43 b) (h : cIm u b i) (v : vIm i) : m_X23_places u b = some (if i 1 0 0 = 0 then 0 else i 1 0 2 / 2) := by
  obtain ⟨t1, t2, t3⟩ := i_text T
  obtain ⟨h1, h2⟩ := h.1 0 (by omega) (by omega)
  rw [em_X23_places]; unfold dm_X23_places
  rw [t1, Option.bind_some, jrd_in t2 t3, Option.bind_some, h1]
  by_cases c : i 1 0 0 = 0
  · rw [if_pos c, if_pos c]
  · obtain ⟨a1, a2, a3, a4⟩ := h2 c
    have hv := (v.1 0 (by omega) (by omega)).2 c
    rw [if_neg c, if_neg c, Option.bind_some, jrd_in t2 t3, Option.bind_some, a2, jdv_in (by decide), Option.bind_some, I_div_n (by omega) (by omega) (by omega) (by omega)]
/-- what it changes -/
def fWm (u t : jS) (b : Int) : Prop := jFx u t b 1 ∧ ∀ c a k, ¬ (c = 27 ∧ a = b ∧ k = 4) → jf t c a k = jf u c a k
theorem fWm.rfl : fWm u u b := ⟨jFx.rfl, fun _ _ _ _ => Eq.refl _⟩
theorem fWm.jp {v : Int} (h : fWm u t b) : fWm u (jp t 27 b 4 v) b := ⟨h.1.jp (by decide) (by omega) (by omega), fun c' a' k' p => by rw [jf_jp, if_neg (by omega)]; exact h.2 c' a' k' p⟩
theorem cIm.wm (h : cIm u b i) (k : fWm u t b) : cIm t b i := by
  obtain ⟨h1, h2, h3, h4, h5⟩ := h
  refine ⟨fun x x0 x1 => (h1 x x0 x1).keep fun c a k' a0 a1 => k.2 c a k' (by unfold vsg at a0; omega), ?_, ?_, fun j j0 j1 => ?_, fun x x0 x1 => by rw [k.2 _ _ _ (by omega)]; exact h5 x x0 x1⟩
  · rw [k.2 _ _ _ (by omega)]; exact h2
  · rw [k.2 _ _ _ (by omega)]; exact h3
  · rw [k.2 _ _ _ (by omega)]; exact h4 j j0 j1
theorem i_good (T : jTt u 43 b) (h : cIm u b i) (v : vIm i) (c : ¬ i 1 0 0 = 0) : jE (m_X23_areMarksGood u b) fun q => fWm u q.1 b ∧ (q.2 = 1 ∧ (∀ k, 0 ≤ k → k < 2048 → gmI i k) ∨ q.2 = 0 ∧ ∃ k, 0 ≤ k ∧ k < 2048 ∧ ¬ gmI i k ∧ (∀ y, 0 ≤ y → y < k → gmI i y) ∧ jf q.1 27 b 4 = k) := by
  have hv := (v.1 0 (by omega) (by omega)).2 c
  rw [em_X23_areMarksGood]; unfold dm_X23_areMarksGood
  rw [eu_X23_areMarksGood_2]; unfold du_X23_areMarksGood_2
  refine jS_for (fun k t => fWm u t b ∧ ∀ y, 0 ≤ y → y < k → gmI i y) (fun k => [b, k]) 0 2048 (by omega) ⟨fWm.rfl, fun y y0 y1 => by omega⟩ (fun k t k0 k1 ⟨g1, g2⟩ => ?_) (fun t ⟨g1, g2⟩ => ?_)
  · show jE (b_X23_areMarksGood_2 t b k) _
    unfold b_X23_areMarksGood_2
    have I := h.wm g1
    have e75 : ∀ t, u_X23_areMarksGood_75 t b k = some (.inl (t, [b, k + 1])) := fun t => by
      rw [eu_X23_areMarksGood_75]; unfold du_X23_areMarksGood_75
      rw [W32_in (by omega) (by omega)]
    have nx : gmI i k → ∀ y, 0 ≤ y → y < k + 1 → gmI i y := fun q y y0 y1 => by
      by_cases cy : y = k
      · subst cy; exact q
      · exact g2 y y0 (by omega)
    rw [if_pos k1, jlt_in k0 k1, Option.bind_some, I.2.2.2.1 k k0 k1]
    by_cases c1 : i 3 k 0 = 0
    · rw [if_pos c1, e75]; exact jS_end ⟨rfl, g1, nx (.inl c1)⟩
    rw [if_neg c1]
    simp only [jls]
    have k2 : fWm u (jp t 27 b 4 k) b := g1.jp
    have e4 : jf (jp t 27 b 4 k) 27 b 4 = k := jf_pos ⟨rfl, rfl, rfl⟩
    generalize jp t 27 b 4 k = t2 at k2 e4 ⊢
    have I2 := h.wm k2
    have T2 := T.ext k2.1.2
    obtain ⟨t1, t2', t3⟩ := i_text T2
    obtain ⟨b1, b2, -, -⟩ := (I2.1 0 (by omega) (by omega)).2 c
    have bad : ¬ gmI i k → fWm u t2 b ∧ ((0 : Int) = 1 ∧ (∀ k, 0 ≤ k → k < 2048 → gmI i k) ∨ (0 : Int) = 0 ∧ ∃ k, 0 ≤ k ∧ k < 2048 ∧ ¬ gmI i k ∧ (∀ y, 0 ≤ y → y < k → gmI i y) ∧ jf t2 27 b 4 = k) := fun hq => ⟨k2, .inr ⟨rfl, k, k0, k1, hq, g2, e4⟩⟩
    rw [i_places T2 I2 v, Option.bind_some, if_neg c]
    by_cases c2 : k < i 1 0 2 / 2
    rotate_left
    · rw [if_neg c2]; rw [Wz_0]; exact jS_inr (jS_end (bad fun q => q.elim c1 fun q => c2 q.1))
    rw [if_pos c2, i_length T2 I2 v c k0 (by omega), Option.bind_some, t1, Option.bind_some, jrd_in t2' t3, Option.bind_some, b2, W32_in (z := 2 * k) (by omega) (by omega)]
    by_cases c3 : shI i k = true
    · rw [if_pos c3, W32_in (by omega) (by omega), if_neg (by omega), Option.bind_some, if_neg (by decide), e75]
      exact jS_end ⟨rfl, k2, nx (.inr ⟨c2, .inl c3⟩)⟩
    · rw [if_neg c3, W32_in (by omega) (by omega)]
      by_cases c4 : i 1 0 2 < 2 * k + 4
      · rw [if_pos c4]; rw [Wz_0]; exact jS_inr (jS_end (bad fun q => q.elim c1 fun q => q.2.elim c3 fun q => by omega))
      · rw [if_neg c4, Option.bind_some, if_pos rfl, W32_in (by omega) (by omega), jlt_in (by omega) (by omega), Option.bind_some, I2.2.2.2.1 (k + 1) (by omega) (by omega)]
        by_cases c5 : i 3 (k + 1) 0 = 0
        · rw [if_pos c5, e75]
          exact jS_end ⟨rfl, k2, nx (.inr ⟨c2, .inr ⟨by omega, c5⟩⟩)⟩
        · rw [if_neg c5]; rw [Wz_0]; exact jS_inr (jS_end (bad fun q => q.elim c1 fun q => q.2.elim c3 fun q => c5 q.2))
  · show jE (b_X23_areMarksGood_2 t b 2048) _
    unfold b_X23_areMarksGood_2
    rw [if_neg (by omega), Wz_1]
    exact jS_inr (jS_end ⟨g1, .inl ⟨rfl, g2⟩⟩)
theorem i_isMark (T : jTt u 43 b) (h : cIm u b i) (v : vIm i) (c : ¬ i 1 0 0 = 0) (hx : jin x) : ∃ r, m_X23_isMark u b x = some r ∧ (r = 1 ∧ isMk i x ∨ r = 0 ∧ ¬ isMk i x) := by
  obtain ⟨t1, t2, t3⟩ := i_text T
  obtain ⟨h1, h2⟩ := h.1 0 (by omega) (by omega)
  obtain ⟨a1, a2, a3, a4⟩ := h2 c
  have hv := (v.1 0 (by omega) (by omega)).2 c
  have hx := jin_p.mp hx
  rw [em_X23_isMark]; unfold dm_X23_isMark isMk
  rw [t1, Option.bind_some, jrd_in t2 t3, Option.bind_some, a1]
  simp only [jlet]
  rw [W64_in (by omega) (by omega), Option.bind_some, jrd_in t2 t3, Option.bind_some, h1, if_neg c, Wz_0, Wz_1]
  simp only [L_cmp_lt, L_cmp_0]
  by_cases c1 : x - i 1 0 1 < 0
  · rw [if_pos c1]; exact ⟨0, rfl, .inr ⟨rfl, fun q => by omega⟩⟩
  rw [if_neg c1, Option.bind_some, jrd_in t2 t3, Option.bind_some, a2]
  by_cases c2 : x - i 1 0 1 < i 1 0 2
  rotate_left
  · rw [if_neg c2]; exact ⟨0, rfl, .inr ⟨rfl, fun q => by omega⟩⟩
  rw [if_pos c2, jdv_in (by decide), Option.bind_some, L_rem_n (by omega) (by omega) (by omega) (by omega)]
  by_cases c3 : (x - i 1 0 1) % 2 = 0
  rotate_left
  · rw [if_neg c3]; exact ⟨0, rfl, .inr ⟨rfl, fun q => c3 q.2.2.1⟩⟩
  rw [if_pos c3, jdv_in (by decide), Option.bind_some, l2i_p, W32_in (by omega) (by omega), I_div_n (by omega) (by omega) (by omega) (by omega), jlt_in (by omega) (by omega), Option.bind_some, h.2.2.2.1 _ (by omega) (by omega)]
  by_cases c4 : i 3 ((x - i 1 0 1) / 2) 0 = 0
  · rw [if_pos c4]; exact ⟨0, rfl, .inr ⟨rfl, fun q => q.2.2.2 c4⟩⟩
  · rw [if_neg c4]; exact ⟨1, rfl, .inl ⟨rfl, by omega, by omega, c3, c4⟩⟩
theorem i_wmarks (T : jTt u 43 b) (h : cIm u b i) (v : vIm i) (c : ¬ i 1 0 0 = 0) : jE (m_X23_wrongMarks u b) fun q => fWm u q.1 b ∧ (q.2 = 4 ∧ (∃ k, 0 ≤ k ∧ k < 2048 ∧ ¬ gmI i k ∧ (∀ y, 0 ≤ y → y < k → gmI i y) ∧ jf q.1 27 b 4 = k) ∨ q.2 = 5 ∧ (∀ k, 0 ≤ k → k < 2048 → gmI i k) ∧ ¬ isMk i (i 2 0 0) ∨ q.2 = 0 ∧ (∀ k, 0 ≤ k → k < 2048 → gmI i k) ∧ isMk i (i 2 0 0)) := by
  rw [em_X23_wrongMarks]; unfold dm_X23_wrongMarks
  refine jS_call (i_good T h v c) fun q ⟨k1, hq⟩ => ?_
  rcases hq with ⟨q1, q2⟩ | ⟨q1, q2⟩
  rotate_left
  · rw [if_pos q1]; exact jS_end ⟨k1, .inl ⟨rfl, q2⟩⟩
  have I := h.wm k1
  obtain ⟨r, er, hr⟩ := i_isMark (T.ext k1.1.2) I v c v.2.1
  rw [if_neg (by omega), I.2.1, er, Option.bind_some]
  rcases hr with ⟨r1, r2⟩ | ⟨r1, r2⟩
  · rw [if_neg (by omega)]; exact jS_end ⟨k1, .inr (.inr ⟨rfl, q2, r2⟩)⟩
  · rw [if_pos r1]; exact jS_end ⟨k1, .inr (.inl ⟨rfl, q2, r2⟩)⟩
/-- how many marks, of short words alone -/
def ctI (i : Int → Int → Int → Int) (z : Int) : Int → Bool := fun k => decide (¬ i 3 k 0 = 0) && (decide (z = 0) || shI i k)
theorem i_count (T : jTt u 43 b) (h : cIm u b i) (v : vIm i) : m_X23_count u b z = some (cn (ctI i z) (if i 1 0 0 = 0 then 0 else i 1 0 2 / 2)) := by
  have hp := i_places T h v
  have hcn := fun k k0 => cn_lo (P := ctI i z) (x := k) k0
  generalize hP : (if i 1 0 0 = 0 then 0 else i 1 0 2 / 2) = P at hp ⊢
  have P0 : 0 ≤ P ∧ P ≤ 2048 ∧ (0 < P → ¬ i 1 0 0 = 0 ∧ 2 * P ≤ i 1 0 2) := by
    rw [← hP]
    by_cases c : i 1 0 0 = 0
    · rw [if_pos c]; omega
    · have hv := (v.1 0 (by omega) (by omega)).2 c
      rw [if_neg c]; exact ⟨by omega, by omega, fun _ => ⟨c, by omega⟩⟩
  rw [em_X23_count]; unfold dm_X23_count
  rw [eu_X23_count_4]; unfold du_X23_count_4
  refine jforR (fun k => [b, z, cn (ctI i z) k, k]) 0 P P0.1 (fun k k0 k1 => ?_) ?_
  · show b_X23_count_4 u b z (cn (ctI i z) k) k = _
    unfold b_X23_count_4
    have cl := hcn k k0
    have hs := cn_s (P := ctI i z) (x := k) k0
    obtain ⟨c, c'⟩ := P0.2.2 (by omega)
    have e39 : ∀ y, 0 ≤ y → y ≤ 1 → u_X23_count_39 u b z k y (cn (ctI i z) k) = some (.inl [b, z, cn (ctI i z) k + y, k + 1]) := fun y y0 y1 => by
      rw [eu_X23_count_39]; unfold du_X23_count_39
      simp only [jlet]
      rw [W32_in (z := cn (ctI i z) k + y) (by omega) (by omega), W32_in (by omega) (by omega)]
    have e34 : u_X23_count_34 u b z k (cn (ctI i z) k) = some (.inl [b, z, cn (ctI i z) k + 1, k + 1]) := by rw [eu_X23_count_34]; unfold du_X23_count_34; exact e39 1 (by omega) (by omega)
    have e38 : u_X23_count_38 u b z k (cn (ctI i z) k) = some (.inl [b, z, cn (ctI i z) k + 0, k + 1]) := by rw [eu_X23_count_38]; unfold du_X23_count_38; exact e39 0 (by omega) (by omega)
    rw [hp, Option.bind_some, if_pos k1, jlt_in k0 (by omega), Option.bind_some, h.2.2.2.1 k k0 (by omega), e34, e38, i_isShort T h v c k0 (by omega), Option.bind_some, hs]
    unfold ctI
    by_cases c1 : i 3 k 0 = 0
    · rw [if_pos c1, if_neg (by simp [c1])]
    · rw [if_neg c1]
      by_cases c2 : z = 0
      · rw [if_pos c2, if_pos (by simp [c1, c2])]
      · rw [if_neg c2]
        by_cases c3 : shI i k = true
        · rw [if_pos c3, if_neg (by decide), if_pos (by simp [c1, c2, c3])]
        · rw [if_neg c3, if_pos rfl, if_neg (by simp [c1, c2, c3])]
  · show b_X23_count_4 u b z (cn (ctI i z) P) P = _
    unfold b_X23_count_4
    rw [hp, Option.bind_some, if_neg (by omega)]
end jIimg4
