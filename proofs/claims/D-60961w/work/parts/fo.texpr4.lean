/-! the twin's expressions: names get numbers; signs are pushed -/
section jTexpr4
variable {s t u w v' : jS} {U n p p' q r k c f v y e d o z a a' b' pl : Int} {g : Int → Int} {l m : List Int} {NL : List (List Int)} {W : wR4} {st st' : pS} {I I' L L1 L2 : pI} {S S' : List Int}
theorem ext0 (h : l.length = m.length) (k : ∀ j : Nat, j < l.length → l.getD j 0 = m.getD j 0) : l = m := by
  refine List.ext_getElem h fun j h1 h2 => ?_
  have := k j h1
  rwa [getD_gt h1, getD_gt h2] at this
theorem y_isName (T : nmT t U g n l) (N : nmR t U NL) {i : Nat} (hi : i < NL.length) : m_X39_isName t U i 0 = some (if NL.getD i [] = l then 1 else 0) := by
  obtain ⟨hl, h16⟩ := T.len
  obtain ⟨I0, r, q, r0, rq, qn, q16, h17, h18, el, hz⟩ := T
  obtain ⟨n1, n2, n3⟩ := N
  obtain ⟨m1, m2, m3⟩ := n3 i hi
  have hn := I0.2.2.2
  have ll := nmO_len (g := g) rq
  rw [← el] at ll
  rw [em_X39_isName]; unfold dm_X39_isName
  rw [show W32 (150 * 0) = 0 by rw [W32_in (by omega) (by omega)]; rfl, W32_in (z := 0 + (i : Int)) (by omega) (by omega), jlt_in (by omega) (by omega), Option.bind_some, show (0 : Int) + (i : Int) = i by omega, m2, hl]
  by_cases c : (NL.getD i []).length = l.length
  rotate_left
  · rw [if_neg (by omega), if_neg (fun z => c (by rw [z])), Wz_0]
  rw [if_pos (by omega), eu_X39_isName_28]; unfold du_X39_isName_28
  have rd : ∀ k : Int, 0 ≤ k → k < l.length → b_X39_isName_28 t U i 0 k = if (NL.getD i []).getD k.toNat 0 = l.getD k.toNat 0 then some (.inl [U, (i : Int), 0, k + 1]) else jinr (some (Wz 0)) := fun k k0 k1 => by
    unfold b_X39_isName_28
    have e7 := m3 k.toNat (by omega)
    rw [show ((k.toNat : Nat) : Int) = k by omega] at e7
    rw [hl, if_pos k1, show W32 (2400 * 0) = 0 by rw [W32_in (by omega) (by omega)]; rfl, W32_in (z := 16 * (i : Int)) (by omega) (by omega), W32_in (z := 0 + 16 * (i : Int)) (by omega) (by omega), W32_in (z := 0 + 16 * (i : Int) + k) (by omega) (by omega), jlt_in (by omega) (by omega), Option.bind_some, show 0 + 16 * (i : Int) + k = 16 * i + k by omega, e7, h17, W32_in (z := r + k) (by omega) (by omega), y_lt I0 (by omega) (by omega), W32_in (z := k + 1) (by omega) (by omega)]
    rw [el, nmO_at (by omega), show ((k.toNat : Nat) : Int) = k by omega]
  have key := jseekR (C := jc4 b_X39_isName_28) (s := t) (fun k => [U, (i : Int), 0, k]) (fun k => ¬ (NL.getD i []).getD k.toNat 0 = l.getD k.toNat 0) (fun _ => some (Wz 0)) (some (Wz 1)) 0 l.length (by omega) (fun k k0 k1 hk => ?_) (fun k k0 k1 hk => ?_) (by
    show b_X39_isName_28 t U i 0 l.length = _
    unfold b_X39_isName_28
    rw [hl, if_neg (by omega)])
  rotate_left
  · show b_X39_isName_28 t U i 0 k = _
    rw [rd k k0 k1, if_pos (Classical.not_not.mp hk)]
  · show b_X39_isName_28 t U i 0 k = _
    rw [rd k k0 k1, if_neg hk]
  rcases key with ⟨k, k0, k1, hk, hj, e⟩ | ⟨hj, e⟩
  · rw [e, if_neg (fun z => hk (by rw [z])), Wz_0]
  · rw [e, if_pos (ext0 c fun j hj' => ?_), Wz_1]
    have := hj j (by omega) (by omega)
    rw [show ((j : Nat) : Int).toNat = j by omega] at this
    exact Classical.not_not.mp this
/-- only names are written -/
def yN (t w : jS) (U : Int) : Prop := jSm t w ∧ ∀ c a k, ¬ (c = 1000 ∧ (a = U + 7 ∧ k < 2400 ∨ a = U + 8 ∧ k < 150)) → ¬ (c = 1000 ∧ a = U + 3 ∧ k = 3) → jf w c a k = jf t c a k
theorem yN.tr (h : yN t w U) (T : tR t U g n st I S) (N : nmR w U NL) : tR w U g n (st.1, NL, st.2.2) I S ∧ yE t w U := by
  obtain ⟨T1, T2, T3, T4, T5, T6, T7, T8, T9⟩ := T
  obtain ⟨h1, F⟩ := h
  have K : yE t w U := ⟨h1, fun c a j z z1 z2 => F c a j (fun q => z1 ⟨q.1, by omega⟩) (fun q => z2 ⟨q.1, q.2.1, .inr q.2.2⟩)⟩
  refine ⟨⟨T1.ke K, ?_, T3, by rw [F _ _ _ (by omega) (by omega)]; exact T4, N, ⟨by rw [F _ _ _ (by omega) (by omega)]; exact T6.1, by rw [F _ _ _ (by omega) (by omega)]; exact T6.2.1, T6.2.2⟩, ⟨by rw [F _ _ _ (by omega) (by omega)]; exact T7.1, fun i hi => by rw [F _ _ _ (by omega) (by omega), F _ _ _ (by omega) (by omega)]; exact T7.2 i hi⟩, ⟨by rw [F _ _ _ (by omega) (by omega)]; exact T8.1, T8.2.1.kp fun j _ => F _ _ _ (by omega) (by omega), by rw [F _ _ _ (by omega) (by omega)]; exact T8.2.2.1, by rw [F _ _ _ (by omega) (by omega)]; exact T8.2.2.2.1, T8.2.2.2.2⟩, T9⟩, K⟩
  show tkS w U g n (wd g n st.1)
  unfold tkS at T2 ⊢
  rw [F _ _ _ (by omega) (by omega), F _ _ _ (by omega) (by omega), F _ _ _ (by omega) (by omega), F _ _ _ (by omega) (by omega), F _ _ _ (by omega) (by omega)]
  exact ⟨T2.1, T2.2.1, T2.2.2.1, T2.2.2.2.1, T2.2.2.2.2.1, T2.2.2.2.2.2.1, fun z => ⟨(T2.2.2.2.2.2.2 z).1, fun j hj => by rw [F _ _ _ (by omega) (by omega)]; exact (T2.2.2.2.2.2.2 z).2 j hj⟩⟩
theorem y_number1 (T : nmT t U g n l) (N : nmR t U NL) : if nmIx NL l = 150 then m_X39_number t U = some (t, -1) else ∃ w, m_X39_number t U = some (w, ((nmIx NL l : Nat) : Int)) ∧ nmR w U (nmAdd NL l) ∧ yN t w U := by
  obtain ⟨hl, h16⟩ := T.len
  have le := nmIx_le l NL
  have N0 := N
  have T0 := T
  obtain ⟨n1, n2, n3⟩ := N
  rw [em_X39_number]; unfold dm_X39_number
  rw [eu_X39_number_2]; unfold du_X39_number_2
  have key := jseekW (C := jc2 b_X39_number_2) (s := t) (fun k => [U, k]) (fun k => NL.getD k.toNat [] = l) (fun k => some (t, k)) (u_X39_number_29 t U) 0 NL.length (by omega) (fun k k0 k1 hk => ?_) (fun k k0 k1 hk => ?_) (by
    show b_X39_number_2 t U NL.length = _
    unfold b_X39_number_2
    rw [jlt_in (by omega) (by omega), Option.bind_some, n1, if_neg (by omega)])
  rotate_left
  · show b_X39_number_2 t U k = _
    unfold b_X39_number_2
    have := y_isName T0 N0 (i := k.toNat) (by omega)
    rw [show ((k.toNat : Nat) : Int) = k by omega] at this
    rw [jlt_in (by omega) (by omega), Option.bind_some, n1, if_pos k1, this, Option.bind_some, if_neg hk, if_pos rfl, W32_in (by omega) (by omega)]
  · show b_X39_number_2 t U k = _
    unfold b_X39_number_2
    have := y_isName T0 N0 (i := k.toNat) (by omega)
    rw [show ((k.toNat : Nat) : Int) = k by omega] at this
    rw [jlt_in (by omega) (by omega), Option.bind_some, n1, if_pos k1, this, Option.bind_some, if_pos hk, if_neg (by decide)]
  rcases key with ⟨k, k0, k1, hk, hj, e⟩ | ⟨hj, e⟩
  · have ei := nmIx_at l NL k.toNat (by omega) (fun j hj' => by have := hj j (by omega) (by omega); rwa [show ((j : Nat) : Int).toNat = j by omega] at this) hk
    rw [if_neg (by omega), e, ei, show ((k.toNat : Nat) : Int) = k by omega]
    exact ⟨t, rfl, by unfold nmAdd; rw [if_pos (by omega)]; exact N0, jSm.rfl, fun _ _ _ _ _ => rfl⟩
  have ei := nmIx_no l NL (fun j hj' => by have := hj j (by omega) (by omega); rwa [show ((j : Nat) : Int).toNat = j by omega] at this)
  rw [e, eu_X39_number_29]; unfold du_X39_number_29
  rw [jlt_in (by omega) (by omega), Option.bind_some, n1]
  by_cases c : NL.length = 150
  · rw [if_pos (by omega), if_pos (by omega)]
  rw [if_neg (show ¬ nmIx NL l = 150 by omega), if_neg (by omega), Option.bind_some, hl, jst_in (by omega) (by omega), Option.bind_some, eu_X39_number_67]; unfold du_X39_number_67
  obtain ⟨I0, r, q, r0, rq, qn, q16, h17, h18, el, hz⟩ := T
  have hn := I0.2.2.2
  have ll := nmO_len (g := g) rq
  rw [← el] at ll
  obtain ⟨w, e1, J⟩ := jstepS (A := jc3 b_X39_number_67) (t := jp t 1000 (U + 8) NL.length l.length) (fun k w => (jSm t w ∧ ∀ (c a j : Int), ¬ (c = 1000 ∧ a = U + 8 ∧ j = (NL.length : Int)) → ¬ (c = 1000 ∧ a = U + 7 ∧ 16 * (NL.length : Int) ≤ j ∧ j < 2400) → jf w c a j = jf t c a j) ∧ jf w 1000 (U + 8) NL.length = l.length ∧ ∀ j : Nat, (j : Int) < k → jf w 1000 (U + 7) (16 * (NL.length : Int) + j) = l.getD j 0) (fun k => [U, (NL.length : Int), k]) 0 l.length (by omega) ⟨⟨jSm.rfl.jp, fun c a j z z1 => jf_neg (fun q => z ⟨q.1, q.2.1, q.2.2⟩)⟩, jf_pos ⟨rfl, rfl, rfl⟩, fun j hj => by omega⟩ (fun k u k0 k1 J => by
    obtain ⟨⟨J1, F⟩, J2, J3⟩ := J
    have hu17 : jf u 43 U 17 = r := by rw [F _ _ _ (by omega) (by omega)]; exact h17
    have hu18 : jf u 43 U 18 = q := by rw [F _ _ _ (by omega) (by omega)]; exact h18
    have b2 : jf u 1000 (U + 2) (r + k) = g (r + k) := by rw [F _ _ _ (by omega) (by omega)]; exact I0.2.1 _ (by omega) (by omega)
    refine ⟨jp u 1000 (U + 7) (16 * (NL.length : Int) + k) (g (r + k)), ?_, ⟨J1.jp, fun c a j z z1 => ?_⟩, ?_, fun j hj => ?_⟩
    · show b_X39_number_67 u U NL.length k = _
      unfold b_X39_number_67
      rw [hu17, hu18, W32_in (z := q - r) (by omega) (by omega), if_pos (by omega), W32_in (z := r + k) (by omega) (by omega), jlt_in (by omega) (by omega), Option.bind_some, b2, W32_in (z := 16 * (NL.length : Int)) (by omega) (by omega), W32_in (z := 16 * (NL.length : Int) + k) (by omega) (by omega), jst_in (by omega) (by omega), Option.bind_some, W32_in (z := k + 1) (by omega) (by omega)]
    · rw [jf_neg (fun q => z1 ⟨q.1, q.2.1, by omega, by omega⟩)]; exact F c a j z z1
    · rw [jf_neg (by omega)]; exact J2
    · by_cases cj : (j : Int) = k
      · rw [jf_pos ⟨rfl, rfl, by omega⟩, el, nmO_at (by omega), cj]
      · rw [jf_neg (by omega)]; exact J3 j (by omega))
  rw [e1]
  obtain ⟨⟨J1, F⟩, J2, J3⟩ := J
  rw [jlpW_r (r := u_X39_number_108 w U NL.length) (by
    show b_X39_number_67 w U NL.length l.length = _
    unfold b_X39_number_67
    rw [F _ _ _ (by omega) (by omega), F _ _ _ (by omega) (by omega), hl, if_neg (by omega)]), eu_X39_number_108]; unfold du_X39_number_108
  rw [jlt_in (by omega) (by omega), Option.bind_some, F _ _ _ (by omega) (by omega), n1, jst_in (by omega) (by omega), Option.bind_some, W32_in (by omega) (by omega), ei]
  refine ⟨_, rfl, ⟨?_, ?_, fun i hi => ?_⟩, J1.jp, fun c a k z z1 => ?_⟩
  · unfold nmAdd; rw [if_neg (by omega), jf_pos ⟨rfl, rfl, rfl⟩]; simp
  · unfold nmAdd; rw [if_neg (by omega)]; simp; omega
  · unfold nmAdd at hi ⊢
    rw [if_neg (by omega)] at hi ⊢
    have hi' : i < NL.length + 1 := by simpa using hi
    by_cases ci : i = NL.length
    · subst ci
      rw [show (NL ++ [l]).getD NL.length [] = l by simp]
      exact ⟨h16, by rw [jf_neg (by omega)]; exact J2, fun j hj => by rw [jf_neg (by omega)]; exact J3 j (by omega)⟩
    · rw [show (NL ++ [l]).getD i [] = NL.getD i [] by rw [List.getD_eq_getElem?_getD, List.getD_eq_getElem?_getD, List.getElem?_append_left (by omega)]]
      obtain ⟨m1, m2, m3⟩ := n3 i (by omega)
      exact ⟨m1, by rw [jf_neg (by omega), F _ _ _ (by omega) (by omega)]; exact m2, fun j hj => by rw [jf_neg (by omega), F _ _ _ (by omega) (by omega)]; exact m3 j hj⟩
  · rw [jf_neg (fun q => z1 ⟨q.1, q.2.1, q.2.2⟩), F c a k (fun q => z ⟨q.1, .inr ⟨q.2.1, by omega⟩⟩) (fun q => z ⟨q.1, .inl ⟨q.2.1, by omega⟩⟩)]
theorem y_numbr (T : tR t U g n st I S) (hk : (wd g n st.1).1 = 1) : if nmIx st.2.1 (nmO g (wd g n st.1).2.2.1 (wd g n st.1).2.2.2) = 150 then m_X39_number t U = some (t, -1)
    else ∃ w, m_X39_number t U = some (w, ((nmIx st.2.1 (nmO g (wd g n st.1).2.2.1 (wd g n st.1).2.2.2) : Nat) : Int)) ∧ tR w U g n (st.1, nmAdd st.2.1 (nmO g (wd g n st.1).2.2.1 (wd g n st.1).2.2.2), st.2.2) I S ∧ yE t w U ∧ jf w 43 U 15 = jf t 43 U 15 := by
  have h := y_number1 (T.2.1.nm T.1 T.2.2.1.1 T.2.2.1.2 (.inl hk)) T.2.2.2.2.1
  by_cases c : nmIx st.2.1 (nmO g (wd g n st.1).2.2.1 (wd g n st.1).2.2.2) = 150
  · rw [if_pos c] at h ⊢; exact h
  · rw [if_neg c] at h ⊢
    obtain ⟨w, e, N, K⟩ := h
    obtain ⟨r1, r2⟩ := K.tr T N
    exact ⟨w, e, r1, r2, K.2 _ _ _ (by omega) (by omega)⟩
/-- a sign is pushed -/
theorem tR.push (T : tR t U g n st I S) (ho : 11 < o ∧ o ≤ 21) (hb : I.length + sN S + 1 ≤ st.2.2.1) : jst t 1000 (U + 10) 2100 (jf t 43 U 23) o = some (jp t 1000 (U + 10) S.length o) ∧ jf (jp t 1000 (U + 10) S.length o) 43 U 23 = S.length ∧ (S.length : Int) < 2100 ∧ tR (jp (jp t 1000 (U + 10) S.length o) 43 U 23 (S.length + 1)) U g n st I (o :: S) ∧ yE t (jp (jp t 1000 (U + 10) S.length o) 43 U 23 (S.length + 1)) U := by
  have h2 := T.2.2.2.2.2.1.2.2.2.2
  have T7 := T.2.2.2.2.2.2.1
  obtain ⟨s1, s2, s3, s4, s5⟩ := T.2.2.2.2.2.2.2.1
  have hn := sN_lo S
  have ho' := sO_lo S
  have e1 : sO (o :: S) = sO S := by show (if o = 1 then (1 : Int) else 0) + sO S = sO S; rw [if_neg (by omega)]; omega
  have e3 : sN (o :: S) = 1 + sN S := by show (if o = 1 then (0 : Int) else 1) + sN S = 1 + sN S; rw [if_neg (by omega)]
  have e2 : sD (o :: S) = sD S := by show (if o ≤ 11 then (1 : Int) else 0) + sD S = sD S; rw [if_neg (by omega)]; omega
  have el : ((o :: S).length : Int) = S.length + 1 := by simp
  have K : yF t (jp (jp t 1000 (U + 10) S.length o) 43 U 23 (S.length + 1)) U := (yF.rfl.row (.inr rfl)).slt (by omega)
  refine ⟨by rw [s1, jst_in (by omega) (by omega)], by rw [jf_neg (by omega)]; exact s1, by omega, K.tr T ⟨by (repeat (first | rw [jf_neg (by omega)] | rw [jf_pos (by omega)] | rw [ou_neg (by omega)] | rw [ou_pos (by omega)])), by (repeat (first | rw [jf_neg (by omega)] | rw [jf_pos (by omega)] | rw [ou_neg (by omega)] | rw [ou_pos (by omega)]))⟩ ⟨by rw [jf_neg (by omega), jf_neg (by omega)]; exact T7.1, fun i hi => by rw [jf_neg (by omega), jf_neg (by omega), jf_neg (by omega), jf_neg (by omega)]; exact T7.2 i hi⟩ ⟨by rw [jf_pos ⟨rfl, rfl, rfl⟩, el], ⟨⟨by rw [jf_neg (by omega), jf_pos ⟨rfl, rfl, rfl⟩], ho.2⟩, s2.kp fun j hj => by rw [jf_neg (by omega), jf_neg (by omega)]⟩, by rw [jf_neg (by omega), jf_neg (by omega), s3, e1], by rw [jf_neg (by omega), jf_neg (by omega), s4, e2], by omega⟩ (by omega), K.ye⟩
theorem tR.push1 (T : tR t U g n st I S) (ho : o = 10 ∨ o = 11) (hb : I.length + sN S + 1 ≤ st.2.2.1) : jst t 1000 (U + 10) 2100 S.length o = some (jp t 1000 (U + 10) S.length o) ∧ jf (jp t 1000 (U + 10) S.length o) 43 U 23 = S.length ∧ (S.length : Int) < 2100 ∧ jf (jp (jp t 1000 (U + 10) S.length o) 43 U 23 (S.length + 1)) 43 U 26 = 1 + sD S ∧ sD S ≤ S.length ∧ tR (jp (jp (jp t 1000 (U + 10) S.length o) 43 U 23 (S.length + 1)) 43 U 26 (1 + sD S + 1)) U g n st I (o :: S) ∧ yE t (jp (jp (jp t 1000 (U + 10) S.length o) 43 U 23 (S.length + 1)) 43 U 26 (1 + sD S + 1)) U := by
  have h2 := T.2.2.2.2.2.1.2.2.2.2
  have T7 := T.2.2.2.2.2.2.1
  obtain ⟨s1, s2, s3, s4, s5⟩ := T.2.2.2.2.2.2.2.1
  have hn := sN_lo S
  have ho' := sO_lo S
  have e1 : sO (o :: S) = sO S := by show (if o = 1 then (1 : Int) else 0) + sO S = sO S; rw [if_neg (by omega)]; omega
  have e3 : sN (o :: S) = 1 + sN S := by show (if o = 1 then (0 : Int) else 1) + sN S = 1 + sN S; rw [if_neg (by omega)]
  have e2 : sD (o :: S) = 1 + sD S := by show (if o ≤ 11 then (1 : Int) else 0) + sD S = 1 + sD S; rw [if_pos (by omega)]
  have el : ((o :: S).length : Int) = S.length + 1 := by simp
  have K : yF t (jp (jp (jp t 1000 (U + 10) S.length o) 43 U 23 (S.length + 1)) 43 U 26 (1 + sD S + 1)) U := ((yF.rfl.row (.inr rfl)).slt (by omega)).slt (by omega)
  refine ⟨by rw [jst_in (by omega) (by omega)], by rw [jf_neg (by omega)]; exact s1, by omega, by rw [jf_neg (by omega), jf_neg (by omega)]; exact s4, by omega, K.tr T ⟨by (repeat (first | rw [jf_neg (by omega)] | rw [jf_pos (by omega)] | rw [ou_neg (by omega)] | rw [ou_pos (by omega)])), by (repeat (first | rw [jf_neg (by omega)] | rw [jf_pos (by omega)] | rw [ou_neg (by omega)] | rw [ou_pos (by omega)]))⟩ ⟨by rw [jf_neg (by omega), jf_neg (by omega), jf_neg (by omega)]; exact T7.1, fun i hi => by rw [jf_neg (by omega), jf_neg (by omega), jf_neg (by omega), jf_neg (by omega), jf_neg (by omega), jf_neg (by omega)]; exact T7.2 i hi⟩ ⟨by rw [jf_neg (by omega), jf_pos ⟨rfl, rfl, rfl⟩, el], ⟨⟨by rw [jf_neg (by omega), jf_neg (by omega), jf_pos ⟨rfl, rfl, rfl⟩], by omega⟩, s2.kp fun j hj => by rw [jf_neg (by omega), jf_neg (by omega), jf_neg (by omega)]⟩, by rw [jf_neg (by omega), jf_neg (by omega), jf_neg (by omega), s3, e1], by rw [jf_pos ⟨rfl, rfl, rfl⟩, e2]; omega, by omega⟩ (by omega), K.ye⟩
theorem tR.pushB (T : tR t U g n st I S) (hd : sO S ≤ 25) : jst t 1000 (U + 10) 2100 (jf t 43 U 23) 1 = some (jp t 1000 (U + 10) S.length 1) ∧ jf (jp t 1000 (U + 10) S.length 1) 43 U 23 = S.length ∧ (S.length : Int) < 2100 ∧ jf (jp (jp t 1000 (U + 10) S.length 1) 43 U 23 (S.length + 1)) 43 U 27 = sO S ∧ jf (jp (jp (jp t 1000 (U + 10) S.length 1) 43 U 23 (S.length + 1)) 43 U 27 (sO S + 1)) 43 U 26 = 1 + sD S ∧ sD S ≤ S.length ∧ 0 ≤ sO S ∧ tR (jp (jp (jp (jp t 1000 (U + 10) S.length 1) 43 U 23 (S.length + 1)) 43 U 27 (sO S + 1)) 43 U 26 (1 + sD S + 1)) U g n st I (1 :: S) ∧ yE t (jp (jp (jp (jp t 1000 (U + 10) S.length 1) 43 U 23 (S.length + 1)) 43 U 27 (sO S + 1)) 43 U 26 (1 + sD S + 1)) U := by
  have h2 := T.2.2.2.2.2.1.2.2.2.2
  have T7 := T.2.2.2.2.2.2.1
  obtain ⟨s1, s2, s3, s4, s5⟩ := T.2.2.2.2.2.2.2.1
  have T9 := T.2.2.2.2.2.2.2.2
  have hn := sN_lo S
  have ho' := sO_lo S
  have e1 : sO (1 :: S) = 1 + sO S := rfl
  have e3 : sN (1 :: S) = sN S := by show (0 : Int) + sN S = sN S; omega
  have e2 : sD (1 :: S) = 1 + sD S := rfl
  have el : (((1 : Int) :: S).length : Int) = S.length + 1 := by simp
  have K : yF t (jp (jp (jp (jp t 1000 (U + 10) S.length 1) 43 U 23 (S.length + 1)) 43 U 27 (sO S + 1)) 43 U 26 (1 + sD S + 1)) U := (((yF.rfl.row (.inr rfl)).slt (by omega)).slt (by omega)).slt (by omega)
  refine ⟨by rw [s1, jst_in (by omega) (by omega)], by rw [jf_neg (by omega)]; exact s1, by omega, by rw [jf_neg (by omega), jf_neg (by omega)]; exact s3, by rw [jf_neg (by omega), jf_neg (by omega), jf_neg (by omega)]; exact s4, by omega, by omega, K.tr T ⟨by (repeat (first | rw [jf_neg (by omega)] | rw [jf_pos (by omega)] | rw [ou_neg (by omega)] | rw [ou_pos (by omega)])), by (repeat (first | rw [jf_neg (by omega)] | rw [jf_pos (by omega)] | rw [ou_neg (by omega)] | rw [ou_pos (by omega)]))⟩ ⟨by rw [jf_neg (by omega), jf_neg (by omega), jf_neg (by omega), jf_neg (by omega)]; exact T7.1, fun i hi => by rw [jf_neg (by omega), jf_neg (by omega), jf_neg (by omega), jf_neg (by omega), jf_neg (by omega), jf_neg (by omega), jf_neg (by omega), jf_neg (by omega)]; exact T7.2 i hi⟩ ⟨by rw [jf_neg (by omega), jf_neg (by omega), jf_pos ⟨rfl, rfl, rfl⟩, el], ⟨⟨by rw [jf_neg (by omega), jf_neg (by omega), jf_neg (by omega), jf_pos ⟨rfl, rfl, rfl⟩], by omega⟩, s2.kp fun j hj => by rw [jf_neg (by omega), jf_neg (by omega), jf_neg (by omega), jf_neg (by omega)]⟩, by rw [jf_neg (by omega), jf_pos ⟨rfl, rfl, rfl⟩, e1]; omega, by rw [jf_pos ⟨rfl, rfl, rfl⟩, e2]; omega, by omega⟩ (by omega), K.ye⟩
end jTexpr4
