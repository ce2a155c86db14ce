/-! the twin's expressions: signs are pushed, popped, items are told -/
section jTexpr3
variable {s t u w v' : jS} {U n p p' q r k c f v y e d o z a a' b' pl : Int} {g : Int → Int} {l m : List Int} {NL : List (List Int)} {W : wR4} {st st' : pS} {I I' L L1 L2 : pI} {S S' : List Int}
def yF (t w : jS) (U : Int) : Prop := jSm t w ∧ ∀ c a k, ¬ (c = 43 ∧ a = U ∧ (23 ≤ k ∧ k ≤ 27)) → ¬ (c = 1000 ∧ (a = U + 6 ∧ k < 4000 ∨ a = U + 10)) → ¬ (c = 1000 ∧ a = U + 3 ∧ k = 2) → jf w c a k = jf t c a k
theorem yF.rfl : yF t t U := ⟨jSm.rfl, fun _ _ _ _ _ _ => Eq.refl _⟩
theorem yF.trans (h : yF t u U) (k : yF u w U) : yF t w U := ⟨jSm.trans h.1 k.1, fun c a j z z1 z2 => (k.2 c a j z z1 z2).trans (h.2 c a j z z1 z2)⟩
theorem yF.slt (h : yF t u U) (hk : 23 ≤ k ∧ k ≤ 27) : yF t (jp u 43 U k v) U := ⟨h.1.jp, fun c a j z z1 z2 => by rw [jf_neg (fun q => z ⟨q.1, q.2.1, by rw [q.2.2]; exact hk⟩)]; exact h.2 c a j z z1 z2⟩
theorem yF.row (h : yF t u U) (ha : a = U + 6 ∧ k < 4000 ∨ a = U + 10) : yF t (jp u 1000 a k v) U := ⟨h.1.jp, fun c a' j z z1 z2 => by rw [jf_neg (fun q => z1 ⟨q.1, by rw [q.2.1, q.2.2]; exact ha⟩)]; exact h.2 c a' j z z1 z2⟩
theorem yF.cnt (h : yF t u U) : yF t (jp u 1000 (U + 3) 2 v) U := ⟨h.1.jp, fun c a' j z z1 z2 => by rw [jf_neg (fun q => z2 ⟨q.1, q.2.1, q.2.2⟩)]; exact h.2 c a' j z z1 z2⟩
theorem yF.ye (h : yF t w U) : yE t w U := ⟨h.1, fun c a j z z1 z2 => h.2 c a j (fun q => z ⟨q.1, q.2.1, by omega⟩) (fun q => z1 ⟨q.1, by omega⟩) (fun q => z2 ⟨q.1, q.2.1, .inl q.2.2⟩)⟩
theorem yF.tk (h : yF t w U) (T : tkS t U g n W) : tkS w U g n W := by
  obtain ⟨h1, F⟩ := h
  unfold tkS at T ⊢
  rw [F _ _ _ (by omega) (by omega) (by omega), F _ _ _ (by omega) (by omega) (by omega), F _ _ _ (by omega) (by omega) (by omega), F _ _ _ (by omega) (by omega) (by omega), F _ _ _ (by omega) (by omega) (by omega)]
  exact ⟨T.1, T.2.1, T.2.2.1, T.2.2.2.1, T.2.2.2.2.1, T.2.2.2.2.2.1, fun z => ⟨(T.2.2.2.2.2.2 z).1, fun j hj => by rw [F _ _ _ (by omega) (by omega) (by omega)]; exact (T.2.2.2.2.2.2 z).2 j hj⟩⟩
theorem yF.nm (h : yF t w U) (T : nmR t U NL) : nmR w U NL := by
  obtain ⟨h1, F⟩ := h
  exact ⟨by rw [F _ _ _ (by omega) (by omega) (by omega)]; exact T.1, T.2.1, fun i hi => ⟨(T.2.2 i hi).1, by rw [F _ _ _ (by omega) (by omega) (by omega)]; exact (T.2.2 i hi).2.1, fun j hj => by rw [F _ _ _ (by omega) (by omega) (by omega)]; exact (T.2.2 i hi).2.2 j hj⟩⟩
theorem yF.tr (h : yF t w U) (T : tR t U g n st I S) (h4 : jf w 43 U 24 = jf t 43 U 24 ∧ jf w 43 U 25 = jf t 43 U 25) (hi : itR w U I') (hs : jf w 43 U 23 = S'.length ∧ stk w U S' ∧ jf w 43 U 27 = sO S' ∧ jf w 43 U 26 = 1 + sD S' ∧ sO S' ≤ 30) (hb : I'.length + sN S' ≤ st.2.2.1) : tR w U g n st I' S' := by
  obtain ⟨T1, T2, T3, T4, T5, ⟨c1, c2, c3, c4, c5⟩, T7, T8, T9⟩ := T
  exact ⟨T1.ke h.ye, h.tk T2, T3, by rw [h.2 _ _ _ (by omega) (by omega) (by omega)]; exact T4, h.nm T5, ⟨h4.1.trans c1, h4.2.trans c2, c3, c4, c5⟩, hi, hs, hb⟩
/-- an item is told -/
theorem y_emit0 (hi : itR t U I) (hl : I.length < 2000) : ∃ w, m_X39_emit t U o v = some (w, 0) ∧ itR w U (I ++ [(o, v)]) ∧ jSm t w ∧ ∀ c a k, ¬ (c = 1000 ∧ a = U + 6 ∧ k < 4000) → ¬ (c = 1000 ∧ a = U + 3 ∧ k = 2) → jf w c a k = jf t c a k := by
  rw [em_X39_emit]; unfold dm_X39_emit
  simp only [jlet]
  rw [jlt_in (by omega) (by omega), Option.bind_some, hi.1, W32_in (by omega) (by omega), jst_in (by omega) (by omega), Option.bind_some, W32_in (z := 2 * (I.length : Int) + 1) (by omega) (by omega), jst_in (by omega) (by omega), Option.bind_some, jlt_in (by omega) (by omega), Option.bind_some, jst_in (by omega) (by omega), Option.bind_some, jf_neg (by omega), jf_neg (by omega), hi.1, W32_in (by omega) (by omega)]
  refine ⟨_, rfl, ⟨?_, fun i h => ?_⟩, (((jSm.rfl).jp).jp).jp, fun c a k z1 z2 => by rw [jf_neg (fun q => z2 q), jf_neg (fun q => z1 ⟨q.1, q.2.1, by omega⟩), jf_neg (fun q => z1 ⟨q.1, q.2.1, by omega⟩)]⟩
  · rw [jf_pos ⟨rfl, rfl, rfl⟩]; simp
  · have h' : i < I.length + 1 := by simpa using h
    by_cases c : i = I.length
    · subst c
      rw [show (I ++ [(o, v)]).getD I.length (0, 0) = (o, v) by simp]
      refine ⟨?_, ?_⟩
      · rw [jf_neg (by omega), jf_neg (by omega), jf_pos ⟨rfl, rfl, rfl⟩]
      · rw [jf_neg (by omega), jf_pos ⟨rfl, rfl, rfl⟩]
    · rw [show (I ++ [(o, v)]).getD i (0, 0) = I.getD i (0, 0) by rw [List.getD_eq_getElem?_getD, List.getD_eq_getElem?_getD, List.getElem?_append_left (by omega)]]
      rw [jf_neg (by omega), jf_neg (by omega), jf_neg (by omega), jf_neg (by omega), jf_neg (by omega), jf_neg (by omega)]
      exact hi.2 i (by omega)
theorem tR.emit (T : tR t U g n st I S) (hr : I.length + sN S + 1 ≤ st.2.2.1) : ∃ w, m_X39_emit t U o v = some (w, 0) ∧ tR w U g n st (I ++ [(o, v)]) S ∧ yE t w U ∧ jf w 43 U 15 = jf t 43 U 15 := by
  have hn := sN_lo S
  have h2 := T.2.2.2.2.2.1.2.2.2.2
  have T7 := T.2.2.2.2.2.2.1
  have T8 := T.2.2.2.2.2.2.2.1
  obtain ⟨w, e, hi, hm, F⟩ := y_emit0 (o := o) (v := v) T7 (by omega)
  have K : yF t w U := ⟨hm, fun c a k z z1 z2 => F c a k (fun q => z1 ⟨q.1, .inl q.2⟩) z2⟩
  refine ⟨w, e, K.tr T ⟨F _ _ _ (by omega) (by omega), F _ _ _ (by omega) (by omega)⟩ hi ⟨by rw [F _ _ _ (by omega) (by omega)]; exact T8.1, T8.2.1.kp fun j _ => F _ _ _ (by omega) (by omega), by rw [F _ _ _ (by omega) (by omega)]; exact T8.2.2.1, by rw [F _ _ _ (by omega) (by omega)]; exact T8.2.2.2.1, T8.2.2.2.2⟩ ?_, K.ye, F _ _ _ (by omega) (by omega)⟩
  rw [show ((I ++ [(o, v)]).length : Int) = I.length + 1 by simp]; omega
/-- a sign is popped and told -/
theorem tR.pop (T : tR t U g n st I (o :: S)) (ho : ¬ o = 1) : ∃ w, m_X39_emit (jp t 43 U 23 (W32 (jf t 43 U 23 - 1))) U o 0 = some (w, 0) ∧ jf t 43 U 23 = S.length + 1 ∧ jf t 1000 (U + 10) S.length = o ∧ (S.length : Int) < 2100 ∧ (¬ o ≤ 11 → tR w U g n st (I ++ [(o, 0)]) S) ∧ (o ≤ 11 → tR (jp w 43 U 26 (W32 (jf w 43 U 26 - 1))) U g n st (I ++ [(o, 0)]) S) ∧ yE t w U ∧ jf (jp t 43 U 23 (W32 (jf t 43 U 23 - 1))) 43 U 23 = S.length := by
  have h2 := T.2.2.2.2.2.1.2.2.2.2
  have T7 := T.2.2.2.2.2.2.1
  obtain ⟨s1, s2, s3, s4, s5⟩ := T.2.2.2.2.2.2.2.1
  have T9 := T.2.2.2.2.2.2.2.2
  have hn := sN_lo S
  have ho' := sO_lo S
  have e1 : sO (o :: S) = sO S := by show (if o = 1 then (1 : Int) else 0) + sO S = sO S; rw [if_neg ho]; omega
  have e3 : sN (o :: S) = 1 + sN S := by show (if o = 1 then (0 : Int) else 1) + sN S = 1 + sN S; rw [if_neg ho]
  have e2 : sD (o :: S) = (if o ≤ 11 then 1 else 0) + sD S := rfl
  have el : ((o :: S).length : Int) = S.length + 1 := by simp
  have l1 : jf t 43 U 23 = S.length + 1 := s1.trans el
  have K0 : yF t (jp t 43 U 23 S.length) U := yF.rfl.slt (by omega)
  have i0 : itR (jp t 43 U 23 S.length) U I := ⟨by rw [jf_neg (by omega)]; exact T7.1, fun i hi => by rw [jf_neg (by omega), jf_neg (by omega)]; exact T7.2 i hi⟩
  rw [l1, W32_in (by omega) (by omega), show (S.length : Int) + 1 - 1 = S.length by omega]
  obtain ⟨w, e, hi, hm, F⟩ := y_emit0 (o := o) (v := 0) i0 (by omega)
  have K : yF t w U := ⟨jSm.trans K0.1 hm, fun c a k z z1 z2 => (F c a k (fun q => z1 ⟨q.1, .inl q.2⟩) z2).trans (K0.2 c a k z z1 z2)⟩
  have G : ∀ c a j, ¬ (c = 43 ∧ a = U ∧ j = 23) → ¬ (c = 1000 ∧ a = U + 6) → ¬ (c = 1000 ∧ a = U + 3 ∧ j = 2) → jf w c a j = jf t c a j := fun c a j z z1 z2 => by rw [F c a j (fun q => z1 ⟨q.1, q.2.1⟩) z2, jf_neg z]
  have w23 : jf w 43 U 23 = S.length := by rw [F _ _ _ (by omega) (by omega), jf_pos ⟨rfl, rfl, rfl⟩]
  have lb : ((I ++ [(o, 0)]).length : Int) = I.length + 1 := by simp
  refine ⟨w, e, rfl, s2.1.1, by omega, fun h => ?_, fun h => ?_, K.ye, jf_pos ⟨rfl, rfl, rfl⟩⟩
  · rw [if_neg h] at e2
    exact K.tr T ⟨G _ _ _ (by omega) (by omega) (by omega), G _ _ _ (by omega) (by omega) (by omega)⟩ hi ⟨w23, s2.2.kp fun j _ => G _ _ _ (by omega) (by omega) (by omega), by rw [G _ _ _ (by omega) (by omega) (by omega), s3, e1], by rw [G _ _ _ (by omega) (by omega) (by omega), s4, e2]; omega, by omega⟩ (by omega)
  · rw [if_pos h] at e2
    have w26 : W32 (jf w 43 U 26 - 1) = 1 + sD S := by rw [G _ _ _ (by omega) (by omega) (by omega), s4, e2, W32_in (by omega) (by omega)]; omega
    rw [w26]
    have K2 : yF t (jp w 43 U 26 (1 + sD S)) U := K.slt (by omega)
    exact K2.tr T ⟨by rw [jf_neg (by omega)]; exact G _ _ _ (by omega) (by omega) (by omega), by rw [jf_neg (by omega)]; exact G _ _ _ (by omega) (by omega) (by omega)⟩ ⟨by rw [jf_neg (by omega)]; exact hi.1, fun i hi' => by rw [jf_neg (by omega), jf_neg (by omega)]; exact hi.2 i hi'⟩ ⟨by rw [jf_neg (by omega)]; exact w23, s2.2.kp fun j _ => by rw [jf_neg (by omega)]; exact G _ _ _ (by omega) (by omega) (by omega), by rw [jf_neg (by omega), G _ _ _ (by omega) (by omega) (by omega), s3, e1], jf_pos ⟨rfl, rfl, rfl⟩, by omega⟩ (by omega)
/-- what is popped -/
def unU : List Int → pI
  | [] => []
  | o :: S => if o = 10 ∨ o = 11 then (o, 0) :: unU S else []
def unD : List Int → List Int
  | [] => []
  | o :: S => if o = 10 ∨ o = 11 then unD S else o :: S
def rdU (b : Int) : List Int → pI
  | [] => []
  | o :: S => if 11 < o ∧ b ≤ bnO o then (o, 0) :: rdU b S else []
def rdD (b : Int) : List Int → List Int
  | [] => []
  | o :: S => if 11 < o ∧ b ≤ bnO o then rdD b S else o :: S
theorem y_ahead : ∀ (S : List Int) (t : jS) (I : pI), tR t U g n st I S → ∃ w, jlpW (jc1 b_X39_ahead_0) [U] t = some (w, 0) ∧ tR w U g n st (I ++ unU S) (unD S) ∧ yE t w U
  | [], t, I, T => by
    refine ⟨t, jlpW_r ?_, by show tR t U g n st (I ++ []) []; rw [List.append_nil]; exact T, yE.rfl⟩
    show b_X39_ahead_0 t U = _
    unfold b_X39_ahead_0
    have h := T.2.2.2.2.2.2.2.1.1
    rw [if_neg (by rw [h]; simp)]
  | o :: S, t, I, T => by
    obtain ⟨s1, s2, s3, s4, s5⟩ := T.2.2.2.2.2.2.2.1
    have el : ((o :: S).length : Int) = S.length + 1 := by simp
    have hb := T.2.2.2.2.2.2.2.2
    have h2 := T.2.2.2.2.2.1.2.2.2.2
    have hl := sO_lo (o :: S)
    by_cases c : o = 10 ∨ o = 11
    · obtain ⟨w, e, l1, l2, l3, T1, T2, K, l4⟩ := T.pop (by omega)
      have T2 := T2 (by omega)
      have st1 : b_X39_ahead_0 t U = some (.inl (jp w 43 U 26 (W32 (jf w 43 U 26 - 1)), [U])) := by
        unfold b_X39_ahead_0
        have r1 : W32 (jf t 43 U 23 - 1) = S.length := by rw [l1, W32_in (by omega) (by omega)]; omega
        have e39 : u_X39_ahead_39 t U = some (.inl (jp w 43 U 26 (W32 (jf w 43 U 26 - 1)), [U])) := by
          rw [eu_X39_ahead_39]; unfold du_X39_ahead_39
          simp only [jls]
          rw [l4, jlt_in (by omega) (by omega), Option.bind_some, jf_neg (by omega), l2, e, Option.bind_some]
        rw [if_pos (by omega), r1, jlt_in (by omega) (by omega), Option.bind_some, l2, Option.bind_some, e39]
        by_cases c1 : o = 10
        · rw [if_pos c1]
        · rw [if_neg c1, if_pos (by omega)]
      obtain ⟨w', e', T', K'⟩ := y_ahead S _ _ T2
      refine ⟨w', (jlpW_l st1).trans e', ?_, (K.trans (yE.rfl.slt (by omega))).trans K'⟩
      show tR w' U g n st (I ++ (if o = 10 ∨ o = 11 then (o, 0) :: unU S else [])) (if o = 10 ∨ o = 11 then unD S else o :: S)
      rw [if_pos c, if_pos c, show I ++ (o, 0) :: unU S = I ++ [(o, 0)] ++ unU S by simp]
      exact T'
    · refine ⟨t, jlpW_r ?_, ?_, yE.rfl⟩
      · show b_X39_ahead_0 t U = _
        unfold b_X39_ahead_0
        have r1 : W32 (jf t 43 U 23 - 1) = S.length := by rw [s1, el, W32_in (by omega) (by omega)]; omega
        rw [if_pos (by omega), r1, jlt_in (by omega) (by omega), Option.bind_some, s2.1.1, Option.bind_some, if_neg (by omega), if_neg (by omega)]
      · show tR t U g n st (I ++ (if o = 10 ∨ o = 11 then (o, 0) :: unU S else [])) (if o = 10 ∨ o = 11 then unD S else o :: S)
        rw [if_neg c, if_neg c, List.append_nil]; exact T
theorem y_reduce {b : Int} : ∀ (S : List Int) (t : jS) (I : pI), tR t U g n st I S → ∃ w, jlpW (jc2 b_X39_reduce_0) [U, b] t = some (w, 0) ∧ tR w U g n st (I ++ rdU b S) (rdD b S) ∧ yE t w U
  | [], t, I, T => by
    refine ⟨t, jlpW_r ?_, by show tR t U g n st (I ++ []) []; rw [List.append_nil]; exact T, yE.rfl⟩
    show b_X39_reduce_0 t U b = _
    unfold b_X39_reduce_0
    have h := T.2.2.2.2.2.2.2.1.1
    rw [if_neg (by rw [h]; simp)]
  | o :: S, t, I, T => by
    obtain ⟨s1, s2, s3, s4, s5⟩ := T.2.2.2.2.2.2.2.1
    have el : ((o :: S).length : Int) = S.length + 1 := by simp
    have hb := T.2.2.2.2.2.2.2.2
    have h2 := T.2.2.2.2.2.1.2.2.2.2
    have hl := sO_lo (o :: S)
    have h21 := s2.1.2
    have r1 : W32 (jf t 43 U 23 - 1) = S.length := by rw [s1, el, W32_in (by omega) (by omega)]; omega
    by_cases c : 11 < o ∧ b ≤ bnO o
    · obtain ⟨w, e, l1, l2, l3, T1, T2, K, l4⟩ := T.pop (by omega)
      have T1 := T1 (by omega)
      have st1 : b_X39_reduce_0 t U b = some (.inl (w, [U, b])) := by
        unfold b_X39_reduce_0
        rw [if_pos (by omega), r1, jlt_in (by omega) (by omega), Option.bind_some, l2, if_pos c.1, Option.bind_some, y_binds ⟨by omega, h21⟩, Option.bind_some, if_neg (by omega)]
        simp only [jls]
        rw [r1] at l4 e
        rw [l4, jlt_in (by omega) (by omega), Option.bind_some, jf_neg (by omega), l2, e, Option.bind_some]
      obtain ⟨w', e', T', K'⟩ := y_reduce S _ _ T1
      refine ⟨w', (jlpW_l st1).trans e', ?_, K.trans K'⟩
      show tR w' U g n st (I ++ (if 11 < o ∧ b ≤ bnO o then (o, 0) :: rdU b S else [])) (if 11 < o ∧ b ≤ bnO o then rdD b S else o :: S)
      rw [if_pos c, if_pos c, show I ++ (o, 0) :: rdU b S = I ++ [(o, 0)] ++ rdU b S by simp]
      exact T'
    · refine ⟨t, jlpW_r ?_, ?_, yE.rfl⟩
      · show b_X39_reduce_0 t U b = _
        unfold b_X39_reduce_0
        rw [if_pos (by omega), r1, jlt_in (by omega) (by omega), Option.bind_some, s2.1.1]
        by_cases c1 : 11 < o
        · rw [if_pos c1, Option.bind_some, y_binds ⟨by omega, h21⟩, Option.bind_some, if_pos (by omega)]
        · rw [if_neg c1]
      · show tR t U g n st (I ++ (if 11 < o ∧ b ≤ bnO o then (o, 0) :: rdU b S else [])) (if 11 < o ∧ b ≤ bnO o then rdD b S else o :: S)
        rw [if_neg c, if_neg c, List.append_nil]; exact T
/-- the next word -/
theorem tR.next (T : tR t U g n st I S) (h6 : ¬ (wd g n st.1).1 = 6) : ∃ w z, m_X39_next t U = some (w, z) ∧ tR w U g n ((wd g n st.1).2.2.2, st.2) I S ∧ yE t w U := by
  have hw := wd_in T.1.2.2.1 T.2.2.1.1 T.2.2.1.2
  have h7 := hw.2.2.2.1 h6
  have h18 := T.2.1.2.2.2.1 h6
  obtain ⟨q, e, K, h⟩ := y_next T.1 h18 (by have := T.2.2.1.1; omega) h7.2.1
  obtain ⟨T1, T2, T3, T4, T5, T6, T7, T8, T9⟩ := T
  have F : ∀ c a j, ¬ (c = 43 ∧ a = U ∧ (j = 11 ∨ 15 ≤ j ∧ j ≤ 18)) → ¬ (c = 1000 ∧ a = U + 15) → jf q.1 c a j = jf t c a j := K.2
  refine ⟨q.1, q.2, e, ⟨T1.kp K, h, ⟨by show 0 ≤ (wd g n st.1).2.2.2; omega, h7.2.1⟩, by rw [F _ _ _ (by omega) (by omega)]; exact T4, ⟨by rw [F _ _ _ (by omega) (by omega)]; exact T5.1, T5.2.1, fun i hi => ⟨(T5.2.2 i hi).1, by rw [F _ _ _ (by omega) (by omega)]; exact (T5.2.2 i hi).2.1, fun j hj => by rw [F _ _ _ (by omega) (by omega)]; exact (T5.2.2 i hi).2.2 j hj⟩⟩, ⟨by rw [F _ _ _ (by omega) (by omega)]; exact T6.1, by rw [F _ _ _ (by omega) (by omega)]; exact T6.2.1, T6.2.2⟩, ⟨by rw [F _ _ _ (by omega) (by omega)]; exact T7.1, fun i hi => by rw [F _ _ _ (by omega) (by omega), F _ _ _ (by omega) (by omega)]; exact T7.2 i hi⟩, ⟨by rw [F _ _ _ (by omega) (by omega)]; exact T8.1, T8.2.1.kp fun j _ => F _ _ _ (by omega) (by omega), by rw [F _ _ _ (by omega) (by omega)]; exact T8.2.2.1, by rw [F _ _ _ (by omega) (by omega)]; exact T8.2.2.2.1, T8.2.2.2.2⟩, T9⟩, yE.rfl.rd K⟩
end jTexpr3
