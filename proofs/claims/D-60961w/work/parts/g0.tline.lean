/-! the twin's lines -/
section jTline
variable {s t u w v' : jS} {U n p p' q' r k c f v y e d o z a a' b' pl v6 mk i0 ln : Int} {g : Int → Int} {l m : List Int} {NL : List (List Int)} {W : wR4} {st st' : pS} {I I' E L L1 L2 : pI} {D D' : Int → Prop} {q : qS} {OL : List pvO} {SL SL0 : List pvS} {x : pvS} {b : pvB}
theorem bkT.kpg (h : bkT t U OL SL ln) (F : ∀ c a k, (c = 1000 ∧ (a = U + 5 ∨ a = U + 16 ∨ a = U + 9 ∨ a = U + 4 ∨ a = U + 3 ∧ (k = 0 ∨ k = 1)) ∨ c = 43 ∧ a = U ∧ (k = 12 ∨ k = 19)) → jf w c a k = jf t c a k) : bkT w U OL SL ln := by
  obtain ⟨h1, h2, h3, h4, h5, h6, h7⟩ := h
  exact ⟨fun i hi => (h1 i hi).kpg (by rw [F 43 U 12 (by omega)]; omega) fun a k z => F _ _ _ (by omega), h2, by rw [F _ _ _ (by omega)]; exact h3, fun i hi => (h4 i hi).kpg fun k _ _ => F _ _ _ (by omega), h5, by rw [F _ _ _ (by omega)]; exact h6, by rw [F _ _ _ (by omega)]; exact h7⟩
theorem yN.ya (h : yN t w U) : yA t w U := ⟨h.1, fun c a k z z1 z2 => h.2 c a k (by omega) (by omega)⟩
theorem tB.num (T : tB t U g n st I) (hk : (wd g n st.1).1 = 1) : if nmIx st.2.1 (nmO g (wd g n st.1).2.2.1 (wd g n st.1).2.2.2) = 150 then m_X39_number t U = some (t, -1)
    else ∃ w, m_X39_number t U = some (w, ((nmIx st.2.1 (nmO g (wd g n st.1).2.2.1 (wd g n st.1).2.2.2) : Nat) : Int)) ∧ tB w U g n (st.1, nmAdd st.2.1 (nmO g (wd g n st.1).2.2.1 (wd g n st.1).2.2.2), st.2.2) I ∧ yN t w U := by
  have h := y_number1 (T.2.1.nm T.1 T.2.2.1.1 T.2.2.1.2 (.inl hk)) T.2.2.2.2.1
  by_cases c : nmIx st.2.1 (nmO g (wd g n st.1).2.2.1 (wd g n st.1).2.2.2) = 150
  · rw [if_pos c] at h ⊢; exact h
  · rw [if_neg c] at h ⊢
    obtain ⟨w, e, N, K⟩ := h
    obtain ⟨T1, T2, T3, T4, T5, T6, T7, T9⟩ := T
    have F := K.2
    refine ⟨w, e, ⟨⟨by rw [F _ _ _ (by omega) (by omega)]; exact T1.1, fun j j0 j1 => by rw [F _ _ _ (by omega) (by omega)]; exact T1.2.1 j j0 j1, T1.2.2⟩, ?_, T3, by rw [F _ _ _ (by omega) (by omega)]; exact T4, N, ⟨by rw [F _ _ _ (by omega) (by omega)]; exact T6.1, by rw [F _ _ _ (by omega) (by omega)]; exact T6.2.1, T6.2.2⟩, ⟨by rw [F _ _ _ (by omega) (by omega)]; exact T7.1, fun i hi => by rw [F _ _ _ (by omega) (by omega), F _ _ _ (by omega) (by omega)]; exact T7.2 i hi⟩, T9⟩, K⟩
    show tkS w U g n (wd g n st.1)
    unfold tkS at T2 ⊢
    rw [F _ _ _ (by omega) (by omega), F _ _ _ (by omega) (by omega), F _ _ _ (by omega) (by omega), F _ _ _ (by omega) (by omega), F _ _ _ (by omega) (by omega)]
    exact ⟨T2.1, T2.2.1, T2.2.2.1, T2.2.2.2.1, T2.2.2.2.2.1, T2.2.2.2.2.2.1, fun z => ⟨(T2.2.2.2.2.2.2 z).1, fun j hj => by rw [F _ _ _ (by omega) (by omega)]; exact (T2.2.2.2.2.2.2 z).2 j hj⟩⟩
/-- a statement is begun -/
theorem y_state (T : tB t U g n st I) (B : bkT t U OL SL ln) (hl : SL.length < 400) (hv : ¬ v = -1) : ∃ w, m_X39_state t U o v = some (w, 1) ∧ tB w U g n st I ∧ bkT w U OL (SL ++ [(o, v, (OL.length : Int), (0 : Int), (wd g n st.1).2.2.1, ln)]) ln ∧ yA t w U ∧ jf w 43 U 12 = jf t 43 U 12 ∧ jf w 1000 (U + 3) 0 = SL.length + 1 := by
  obtain ⟨b1, b2, b3, b4, b5, b6, b7⟩ := B
  rw [em_X39_state]; unfold dm_X39_state
  simp only [jlet]
  have f17 : jf t 43 U 17 = (wd g n st.1).2.2.1 := T.2.1.2.1
  rw [jlt_in (by omega) (by omega), Option.bind_some, b6, if_neg (by omega), if_neg hv, Option.bind_some, W32_in (z := 6 * (SL.length : Int)) (by omega) (by omega), jst_in (by omega) (by omega), Option.bind_some, W32_in (z := 6 * (SL.length : Int) + 1) (by omega) (by omega), jst_in (by omega) (by omega), Option.bind_some, jlt_in (by omega) (by omega), Option.bind_some, jf_neg (by omega), jf_neg (by omega), b3, W32_in (z := 6 * (SL.length : Int) + 2) (by omega) (by omega), jst_in (by omega) (by omega), Option.bind_some, W32_in (z := 6 * (SL.length : Int) + 3) (by omega) (by omega), jst_in (by omega) (by omega), Option.bind_some, W32_in (z := 6 * (SL.length : Int) + 4) (by omega) (by omega)]
  have g17 : jf (jp (jp (jp (jp t 1000 (U + 4) (6 * (SL.length : Int)) o) 1000 (U + 4) (6 * (SL.length : Int) + 1) v) 1000 (U + 4) (6 * (SL.length : Int) + 2) OL.length) 1000 (U + 4) (6 * (SL.length : Int) + 3) 0) 43 U 17 = (wd g n st.1).2.2.1 := by rw [jf_neg (by omega), jf_neg (by omega), jf_neg (by omega), jf_neg (by omega)]; exact f17
  rw [g17, jst_in (by omega) (by omega), Option.bind_some, W32_in (z := 6 * (SL.length : Int) + 5) (by omega) (by omega)]
  have g19 : jf (jp (jp (jp (jp (jp t 1000 (U + 4) (6 * (SL.length : Int)) o) 1000 (U + 4) (6 * (SL.length : Int) + 1) v) 1000 (U + 4) (6 * (SL.length : Int) + 2) OL.length) 1000 (U + 4) (6 * (SL.length : Int) + 3) 0) 1000 (U + 4) (6 * (SL.length : Int) + 4) (wd g n st.1).2.2.1) 43 U 19 = ln := by rw [jf_neg (by omega), jf_neg (by omega), jf_neg (by omega), jf_neg (by omega), jf_neg (by omega)]; exact b7
  rw [g19, jst_in (by omega) (by omega), Option.bind_some, jlt_in (by omega) (by omega), Option.bind_some]
  have g0 : jf (jp (jp (jp (jp (jp (jp t 1000 (U + 4) (6 * (SL.length : Int)) o) 1000 (U + 4) (6 * (SL.length : Int) + 1) v) 1000 (U + 4) (6 * (SL.length : Int) + 2) OL.length) 1000 (U + 4) (6 * (SL.length : Int) + 3) 0) 1000 (U + 4) (6 * (SL.length : Int) + 4) (wd g n st.1).2.2.1) 1000 (U + 4) (6 * (SL.length : Int) + 5) ln) 1000 (U + 3) 0 = SL.length := by rw [jf_neg (by omega), jf_neg (by omega), jf_neg (by omega), jf_neg (by omega), jf_neg (by omega), jf_neg (by omega)]; exact b6
  rw [g0, W32_in (by omega) (by omega), jst_in (by omega) (by omega), Option.bind_some, Wz_1]
  have lS : (SL ++ [(o, v, (OL.length : Int), (0 : Int), (wd g n st.1).2.2.1, ln)]).length = SL.length + 1 := by simp
  have F : ∀ c a k, ¬ (c = 1000 ∧ a = U + 4 ∧ 6 * (SL.length : Int) ≤ k ∧ k < 6 * (SL.length : Int) + 6) → ¬ (c = 1000 ∧ a = U + 3 ∧ k = 0) → jf (jp (jp (jp (jp (jp (jp (jp t 1000 (U + 4) (6 * (SL.length : Int)) o) 1000 (U + 4) (6 * (SL.length : Int) + 1) v) 1000 (U + 4) (6 * (SL.length : Int) + 2) OL.length) 1000 (U + 4) (6 * (SL.length : Int) + 3) 0) 1000 (U + 4) (6 * (SL.length : Int) + 4) (wd g n st.1).2.2.1) 1000 (U + 4) (6 * (SL.length : Int) + 5) ln) 1000 (U + 3) 0 (SL.length + 1)) c a k = jf t c a k := fun c a k z z1 => by rw [jf_neg (by omega), jf_neg (by omega), jf_neg (by omega), jf_neg (by omega), jf_neg (by omega), jf_neg (by omega), jf_neg (by omega)]
  have S : jSm t (jp (jp (jp (jp (jp (jp (jp t 1000 (U + 4) (6 * (SL.length : Int)) o) 1000 (U + 4) (6 * (SL.length : Int) + 1) v) 1000 (U + 4) (6 * (SL.length : Int) + 2) OL.length) 1000 (U + 4) (6 * (SL.length : Int) + 3) 0) 1000 (U + 4) (6 * (SL.length : Int) + 4) (wd g n st.1).2.2.1) 1000 (U + 4) (6 * (SL.length : Int) + 5) ln) 1000 (U + 3) 0 (SL.length + 1)) := ((((((jSm.rfl.jp).jp).jp).jp).jp).jp).jp
  refine ⟨_, rfl, T.kp ⟨S, fun c a k z z1 => F c a k (by omega) (by omega)⟩, ⟨fun i hi => (b1 i hi).kpg (by rw [F 43 U 12 (by omega) (by omega)]; omega) fun a k z => F _ _ _ (by omega) (by omega), b2, by rw [F _ _ _ (by omega) (by omega)]; exact b3, fun i hi => ?_, by rw [lS]; omega, by rw [lS, jf_pos ⟨rfl, rfl, rfl⟩]; rfl, by rw [F _ _ _ (by omega) (by omega)]; exact b7⟩, ⟨S, fun c a k z z1 z2 => F c a k (by omega) (by omega)⟩, F _ _ _ (by omega) (by omega), jf_pos ⟨rfl, rfl, rfl⟩⟩
  by_cases ci : i = SL.length
  · subst ci
    rw [getD_app2]
    exact ⟨by (repeat (first | rw [jf_neg (by omega)] | rw [jf_pos (by omega)] | rw [ou_neg (by omega)] | rw [ou_pos (by omega)])), by (repeat (first | rw [jf_neg (by omega)] | rw [jf_pos (by omega)] | rw [ou_neg (by omega)] | rw [ou_pos (by omega)])), by (repeat (first | rw [jf_neg (by omega)] | rw [jf_pos (by omega)] | rw [ou_neg (by omega)] | rw [ou_pos (by omega)])), by (repeat (first | rw [jf_neg (by omega)] | rw [jf_pos (by omega)] | rw [ou_neg (by omega)] | rw [ou_pos (by omega)])), by (repeat (first | rw [jf_neg (by omega)] | rw [jf_pos (by omega)] | rw [ou_neg (by omega)] | rw [ou_pos (by omega)])), by (repeat (first | rw [jf_neg (by omega)] | rw [jf_pos (by omega)] | rw [ou_neg (by omega)] | rw [ou_pos (by omega)]))⟩
  · rw [getD_app1 (by omega)]
    exact (b4 i (by omega)).kpg fun k _ _ => F _ _ _ (by omega) (by omega)
/-- a statement's sort is made another -/
theorem bkT.sort (B : bkT t U OL (SL ++ [x]) ln) : bkT (jp t 1000 (U + 4) (6 * (SL.length : Int)) v) U OL (SL ++ [(v, x.2)]) ln := by
  obtain ⟨b1, b2, b3, b4, b5, b6, b7⟩ := B
  have lS : (SL ++ [x]).length = SL.length + 1 := by simp
  have lS' : (SL ++ [(v, x.2)]).length = SL.length + 1 := by simp
  refine ⟨fun i hi => (b1 i hi).kpg (by rw [jf_neg (by omega)]; omega) fun a k z => jf_neg (by omega), b2, by rw [jf_neg (by omega)]; exact b3, fun i hi => ?_, by omega, by rw [jf_neg (by omega), b6, lS, lS'], by rw [jf_neg (by omega)]; exact b7⟩
  have h := b4 i (by omega)
  by_cases ci : i = SL.length
  · subst ci
    rw [getD_app2] at h ⊢
    obtain ⟨a1, a2, a3, a4, a5, a6⟩ := h
    exact ⟨jf_pos ⟨rfl, rfl, rfl⟩, by rw [jf_neg (by omega)]; exact a2, by rw [jf_neg (by omega)]; exact a3, by rw [jf_neg (by omega)]; exact a4, by rw [jf_neg (by omega)]; exact a5, by rw [jf_neg (by omega)]; exact a6⟩
  · rw [getD_app1 (by omega)] at h ⊢
    exact h.kpg fun k _ _ => jf_neg (by omega)
def lnOut (y : Option (jS × Int)) (t : jS) (U : Int) (g : Int → Int) (n : Int) (ln : Int) (pr : fE ⊕ pvB) : Prop := match pr with
  | .inl e => ∃ w, y = some (w, 0) ∧ yA t w U ∧ jf w 43 U 20 = e.1 ∧ jf w 43 U 21 = e.2
  | .inr b => ∃ w h, y = some (w, 1) ∧ tB w U g n (b.1.1, b.1.2.1, b.1.2.2, h) b.2.1 ∧ bkT w U b.2.2.1 b.2.2.2 ln ∧ (0 ≤ jf w 43 U 12 ∧ jf w 43 U 12 ≤ b.1.1) ∧ yA t w U ∧ (wd g n b.1.1).1 = 0
theorem lnOut.after {y : Option (jS × Int)} {pr : fE ⊕ pvB} (h : lnOut y u U g n ln pr) (k : yA t u U) : lnOut y t U g n ln pr := by
  cases pr with
  | inl e => obtain ⟨w, h1, h2, h3⟩ := h; exact ⟨w, h1, k.trans h2, h3⟩
  | inr z => obtain ⟨w, hh, h1, h2, h3, h4, h5, h6⟩ := h; exact ⟨w, hh, h1, h2, h3, h4, k.trans h5, h6⟩
/-- a statement's operands, and its end -/
theorem y_end {h : Int} (T : tB t U g n (q.1, q.2.1, q.2.2, h) I) (B : bkT t U OL (SL ++ [x]) ln) (hL : 0 ≤ jf t 43 U 12 ∧ jf t 43 U 12 ≤ q.1) (hx : x.2.2.2.1 = 0) : lnOut ((m_X39_operands t U SL.length).bind fun q1 => some (q1.1, Wz q1.2)) t U g n ln (pvEnd g n q I OL SL x) := by
  have hp : 0 ≤ q.1 ∧ q.1 ≤ n := T.2.2.1
  rw [em_X39_operands]; unfold dm_X39_operands pvEnd
  have h15 : jf t 43 U 15 = (wd g n q.1).1 := T.2.1.1
  rw [h15]
  by_cases c0 : (wd g n q.1).1 = 0
  · rw [if_pos c0, if_neg (show ¬ (wd g n q.1).1 = 6 by omega), if_pos c0, Option.bind_some, Wz_1, Wz_1]
    exact ⟨t, h, rfl, T, B, hL, yA.rfl, c0⟩
  rw [if_neg c0, if_neg c0, eu_X39_operands_11]; unfold du_X39_operands_11
  have ho := y_ops (n + 1 - q.1).toNat t q h I OL x (Nat.le_refl _) T B hL (by omega)
  have own : (wd g n q.1).1 = 6 → pvOps g n (n + 1 - q.1).toNat q I OL x = .inl ((wd g n q.1).2.1, (wd g n q.1).2.2.1) := fun c6 => by
    obtain ⟨k, hk⟩ : ∃ k, (n + 1 - q.1).toNat = k + 1 := ⟨(n - q.1).toNat, by omega⟩
    rw [hk]; unfold pvOps pvOp
    rw [if_pos c6]
  have fin : ∀ {pr}, pvOps g n (n + 1 - q.1).toNat q I OL x = pr → lnOut ((jlpW (jc3 b_X39_operands_11) [U, SL.length, 1] t).bind fun q1 => some (q1.1, Wz q1.2)) t U g n ln (match pr with
    | .inl e => .inl e
    | .inr z => .inr (z.1, z.2.1, z.2.2.1, SL ++ [z.2.2.2])) := fun {pr} hpr => by
    rw [hpr] at ho
    cases pr with
    | inl e =>
      obtain ⟨w, h1, h2, h3⟩ := ho
      exact ⟨w, by rw [h1, Option.bind_some, Wz_0], h2, h3⟩
    | inr z =>
      obtain ⟨w, hh, h1, h2, h3, h4, h5, h6⟩ := ho
      exact ⟨w, hh, by rw [h1, Option.bind_some, Wz_1], h2, h3, h4, h5, h6⟩
  by_cases c6 : (wd g n q.1).1 = 6
  · rw [if_pos c6]; exact fin (own c6)
  · rw [if_neg c6]; exact fin rfl
end jTline
