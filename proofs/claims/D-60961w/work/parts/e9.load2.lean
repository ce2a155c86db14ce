/-! an image is loaded into both machines -/
section jLoad2
variable {s t u w r q : jS} {C T M U O X n x k a v b c e0 : Int} {i : Int → Int → Int → Int} {R R' : Type}
/-- two loops in step -/
theorem jstep2 {A : List Int → jS → Option ((jS × List Int) ⊕ R)} {B : List Int → jS → Option ((jS × List Int) ⊕ R')} (I : Int → jS → jS → Prop) (V V' : Int → List Int) (lo hi : Int) (hn : lo ≤ hi) (h : I lo s t)
    (st : ∀ k u w, lo ≤ k → k < hi → I k u w → ∃ u' w', A (V k) u = some (.inl (u', V (k + 1))) ∧ B (V' k) w = some (.inl (w', V' (k + 1))) ∧ I (k + 1) u' w') :
    ∃ u w, jlpW A (V lo) s = jlpW A (V hi) u ∧ jlpW B (V' lo) t = jlpW B (V' hi) w ∧ I hi u w := by
  have key : ∀ (m : Nat) (k : Int) (s t : jS), lo ≤ k → k ≤ hi → hi - k = m → I k s t → ∃ u w, jlpW A (V k) s = jlpW A (V hi) u ∧ jlpW B (V' k) t = jlpW B (V' hi) w ∧ I hi u w := by
    intro m
    induction m with
    | zero =>
      intro k s t k0 k1 hm hI
      have : k = hi := by omega
      subst this
      exact ⟨s, t, rfl, rfl, hI⟩
    | succ m ih =>
      intro k s t k0 k1 hm hI
      obtain ⟨u', w', e1, e2, hI'⟩ := st k s t k0 (by omega) hI
      obtain ⟨u, w, f1, f2, f3⟩ := ih (k + 1) u' w' (by omega) (by omega) (by omega) hI'
      exact ⟨u, w, (jlpW_l e1).trans f1, (jlpW_l e2).trans f2, f3⟩
  exact key (hi - lo).toNat lo s t (by omega) hn (by omega) h
theorem jstep1 {A : List Int → jS → Option ((jS × List Int) ⊕ R)} (V : Int → List Int) (lo hi : Int) (hn : lo ≤ hi) (st : ∀ k, lo ≤ k → k < hi → A (V k) s = some (.inl (s, V (k + 1)))) : jlpW A (V lo) s = jlpW A (V hi) s := by
  have key : ∀ (m : Nat) (k : Int), lo ≤ k → k ≤ hi → hi - k = m → jlpW A (V k) s = jlpW A (V hi) s := by
    intro m
    induction m with
    | zero => intro k k0 k1 hm; rw [show k = hi by omega]
    | succ m ih => intro k k0 k1 hm; rw [jlpW_l (st k k0 (by omega))]; exact ih (k + 1) (by omega) (by omega) (by omega)
  exact key (hi - lo).toNat lo (by omega) hn (by omega)
theorem tIm.kf (h : tIm t X x i) (k : ∀ c a j, X + 1 ≤ a → a ≤ X + 8 → jf w c a j = jf t c a j) : tIm w X x i := by
  obtain ⟨h1, h2, h3, h4⟩ := h
  exact ⟨fun x x0 x1 => (h1 x x0 x1).kp fun c a j a0 a1 => k c a j a0 (by omega), by rw [k _ _ _ (by omega) (by omega)]; exact h2, by rw [k _ _ _ (by omega) (by omega)]; exact h3, fun j j0 j1 => by rw [k _ _ _ (by omega) (by omega)]; exact h4 j j0 j1⟩
/-- what holds while an image is loaded -/
def LdI (s t : jS) (C T : Int) (i : Int → Int → Int → Int) (x : Int) (u w : jS) : Prop := Ml u (C + 4029) w (T + 130) ∧ jFx s u (C + 4029) 119 ∧ jFm t w (T + 130) 13 ∧ (∀ k, 0 ≤ k → k < 32 → jf u 1000 (C + 4029 + 4) k = if k = 3 ∧ 2 < x ∧ ¬ i 1 2 0 = 0 then i 1 2 1 + 2048 else 0) ∧ (∀ k, 0 ≤ k → k < 32 → jf w 1000 (T + 130 + 9) k = 0)
/-- the image on both sides -/
def LdC (s : jS) (C : Int) (t : jS) (T : Int) (i : Int → Int → Int → Int) : Prop := jTt s 43 (C + 3992 + 10) ∧ cIm s (C + 3992 + 10) i ∧ tIm t (T + 118) 1 i ∧ vIm i ∧ gIm i
theorem LdC.kp (h : LdC s C t T i) (k : jFx s u (C + 4029) 119) (k' : jFm t w (T + 130) 13) : LdC u C w T i :=
  ⟨h.1.ext k.2, h.2.1.kf k (by omega), tIm.kf (X := T + 118) h.2.2.1 fun c a j a0 a1 => k'.2 c a j (by omega), h.2.2.2.1, h.2.2.2.2⟩
theorem LdI.stp (h : LdI s t C T i x u w) (g : MlQ u w r q (C + 4029) (T + 130)) : LdI s t C T i x r q :=
  ⟨g.1, h.2.1.trans g.2.1, h.2.2.1.trans g.2.2.1, fun k k0 k1 => by rw [g.2.2.2.1]; exact h.2.2.2.1 k k0 k1, fun k k0 k1 => by rw [g.2.2.2.2]; exact h.2.2.2.2 k k0 k1⟩
theorem LdI.nx (h : LdI s t C T i x u w) (hx : ¬ x = 2 ∨ i 1 2 0 = 0) (h3 : x < 3) : LdI s t C T i (x + 1) u w :=
  ⟨h.1, h.2.1, h.2.2.1, fun k k0 k1 => by
    rw [h.2.2.2.1 k k0 k1, if_neg (fun z => by omega), if_neg (fun z => by rcases hx with y | y; omega; exact z.2.2 y)], h.2.2.2.2⟩
theorem c_set3 : m_X29_set s M 3 v = some (jp (jp s 1000 (M + 4) 3 v) 33 M 21 0, 1) := by
  rw [em_X29_set]; unfold dm_X29_set
  rw [if_neg (show ¬ (3 : Int) < 1 by decide), if_neg (show ¬ (33 : Int) < 3 by decide), if_neg (show ¬ (3 : Int) = 32 by decide), eu_X29_set_26]; unfold du_X29_set_26
  rw [if_pos (show (3 : Int) < 32 by decide), jst_in (by decide) (by decide), Option.bind_some, eu_X29_set_66]; unfold du_X29_set_66
  simp only [em_X29_forget, dm_X29_forget, jls, Option.bind_some, Wz_1]
theorem c_set2 : m_X29_set s M 2 v = some (jp (jp s 1000 (M + 4) 2 v) 33 M 21 0, 1) := by
  rw [em_X29_set]; unfold dm_X29_set
  rw [if_neg (show ¬ (2 : Int) < 1 by decide), if_neg (show ¬ (33 : Int) < 2 by decide), if_neg (show ¬ (2 : Int) = 32 by decide), eu_X29_set_26]; unfold du_X29_set_26
  rw [if_pos (show (2 : Int) < 32 by decide), jst_in (by decide) (by decide), Option.bind_some, eu_X29_set_66]; unfold du_X29_set_66
  simp only [em_X29_forget, dm_X29_forget, jls, Option.bind_some, Wz_1]
theorem c_set32 (h : v % 2 = 0) : m_X29_set s M 32 v = some (jp (jp s 33 M 10 v) 33 M 21 0, 1) := by
  rw [em_X29_set]; unfold dm_X29_set
  rw [if_neg (show ¬ (32 : Int) < 1 by decide), if_neg (show ¬ (33 : Int) < 32 by decide), if_pos rfl, I_and_1, if_neg (by omega), eu_X29_set_26]; unfold du_X29_set_26
  rw [if_neg (show ¬ (32 : Int) < 32 by decide), if_pos rfl]
  simp only [jls]
  rw [eu_X29_set_66]; unfold du_X29_set_66
  simp only [em_X29_forget, dm_X29_forget, jls, Option.bind_some, Wz_1]
theorem Ml.r3 (h : Ml s M t U) : Ml (jp (jp s 1000 (M + 4) 3 v) 33 M 21 0) M t U := by
  obtain ⟨hK, hP, hMem, hMark, hSeg, hIn, hOut, hHalt, hSc, hRing, hd23⟩ := h
  unfold Ml
  simp only [eq_self, or_true, true_or, or_false, false_or, jfc_jp, jupp_p, jup_a, Int.add_right_inj, Int.add_left_inj, Int.reduceEq, if_true, if_false, true_and, and_true, false_and, and_false, reduceIte]
  exact ⟨hK, hP, hMem, hMark, hSeg, by unfold MrIn at *; simp only [eq_self, or_true, true_or, or_false, false_or, jfc_jp, jupp_p, jup_a, Int.add_right_inj, Int.add_left_inj, Int.reduceEq, if_true, if_false, true_and, and_true, false_and, and_false, reduceIte]; exact hIn, hOut, by unfold MrHalt at *; simp only [eq_self, or_true, true_or, or_false, false_or, jfc_jp, jupp_p, jup_a, Int.add_right_inj, Int.add_left_inj, Int.reduceEq, if_true, if_false, true_and, and_true, false_and, and_false, reduceIte]; exact hHalt, by unfold Lsc at *; simp only [eq_self, or_true, true_or, or_false, false_or, jfc_jp, jupp_p, jup_a, Int.add_right_inj, Int.add_left_inj, Int.reduceEq, if_true, if_false, true_and, and_true, false_and, and_false, reduceIte]; omega, hRing.zero (by simp only [eq_self, or_true, true_or, or_false, false_or, jfc_jp, jupp_p, jup_a, Int.add_right_inj, Int.add_left_inj, Int.reduceEq, if_true, if_false, true_and, and_true, false_and, and_false, reduceIte]) (by simp only [eq_self, or_true, true_or, or_false, false_or, jfc_jp, jupp_p, jup_a, Int.add_right_inj, Int.add_left_inj, Int.reduceEq, if_true, if_false, true_and, and_true, false_and, and_false, reduceIte]) hd23 rfl, hd23⟩
/-- one segment -/
theorem ld_seg (hC : LdC s C t T i) (h : LdI s t C T i x u w) (x0 : 0 ≤ x) (x1 : x < 3) : ∃ u' w', b_X1_load_58 u C x = some (.inl (u', [C, x + 1])) ∧ b_X37_load_100 w T x = some (.inl (w', [T, x + 1])) ∧ LdI s t C T i (x + 1) u' w' := by
  obtain ⟨hT, hI, hJ, vi, gi⟩ := hC.kp h.2.1 h.2.2.1
  have e224 : ∀ u, u_X1_load_224 u C x = some (.inl (u, [C, x + 1])) := fun u => by
    rw [eu_X1_load_224]; unfold du_X1_load_224; rw [W32_in (by omega) (by omega)]
  have e220 : ∀ w, u_X37_load_220 w T x = some (.inl (w, [T, x + 1])) := fun w => by
    rw [eu_X37_load_220]; unfold du_X37_load_220; rw [W32_in (by omega) (by omega)]
  unfold b_X1_load_58 b_X37_load_100
  rw [if_pos x1, if_pos x1, i_qAb hI, s_qAb hJ, Option.bind_some, Option.bind_some]
  have q0 : qAb i x 0 = if i 1 x 0 = 0 then 0 else 1 := by unfold qAb; rw [if_pos ⟨x0, x1⟩, if_pos rfl]
  by_cases c : i 1 x 0 = 0
  · rw [q0, if_pos c, if_pos rfl, if_pos rfl, e224, e220]
    exact ⟨u, w, rfl, rfl, h.nx (by by_cases d : x = 2; (subst d; exact .inr c); exact .inl d) x1⟩
  have qn : ∀ j, 1 ≤ j → j ≤ 3 → qAb i x j = i 1 x j := fun j j0 j1 => by
    unfold qAb; rw [if_pos ⟨x0, x1⟩, if_neg (by omega), if_neg c, if_pos ⟨j0, j1⟩]
  have vv := (vi.1 x x0 x1).2 c
  have ge : i 1 x 1 + i 1 x 2 + i 1 x 3 ≤ 131072 := gi.2.1 x x0 x1 c
  rw [q0, if_neg c, if_neg (show ¬ (1 : Int) = 0 by decide), if_neg (show ¬ (1 : Int) = 0 by decide), i_qAb hI, Option.bind_some, i_qAb hI, Option.bind_some, i_qAb hI, Option.bind_some, s_qAb hJ, Option.bind_some, s_qAb hJ, Option.bind_some, s_qAb hJ, Option.bind_some, qn 1 (by omega) (by omega), qn 2 (by omega) (by omega), qn 3 (by omega) (by omega)]
  simp only [jlet]
  rw [W32_in (z := i 1 x 2 + i 1 x 3) (by omega) (by omega)]
  rw [show (if x = 0 then u_X1_load_145 u C x (i 1 x 1) 5 (i 1 x 2 + i 1 x 3) (i 1 x 1) x (C + 4029) else if x = 1 then u_X1_load_145 u C x (i 1 x 1) 1 (i 1 x 2 + i 1 x 3) (i 1 x 1) x (C + 4029) else u_X1_load_145 u C x (i 1 x 1) 3 (i 1 x 2 + i 1 x 3) (i 1 x 1) x (C + 4029)) = u_X1_load_145 u C x (i 1 x 1) (if x = 0 then 5 else if x = 1 then 1 else 3) (i 1 x 2 + i 1 x 3) (i 1 x 1) x (C + 4029) by split; rfl; split <;> rfl]
  rw [show (if x = 0 then u_X37_load_177 w T x (i 1 x 1) (i 1 x 2) 5 (i 1 x 2 + i 1 x 3) (i 1 x 1) x (T + 130) else if x = 1 then u_X37_load_177 w T x (i 1 x 1) (i 1 x 2) 1 (i 1 x 2 + i 1 x 3) (i 1 x 1) x (T + 130) else u_X37_load_177 w T x (i 1 x 1) (i 1 x 2) 3 (i 1 x 2 + i 1 x 3) (i 1 x 1) x (T + 130)) = u_X37_load_177 w T x (i 1 x 1) (i 1 x 2) (if x = 0 then 5 else if x = 1 then 1 else 3) (i 1 x 2 + i 1 x 3) (i 1 x 1) x (T + 130) by split; rfl; split <;> rfl]
  have rb : 0 ≤ (if x = 0 then (5 : Int) else if x = 1 then 1 else 3) ∧ (if x = 0 then (5 : Int) else if x = 1 then 1 else 3) ≤ 7 := by split; omega; split <;> omega
  generalize (if x = 0 then (5 : Int) else if x = 1 then 1 else 3) = rr at rb ⊢
  rw [eu_X1_load_145, eu_X37_load_177]; unfold du_X1_load_145 du_X37_load_177
  obtain ⟨p, ep, q, eq, hq⟩ := ml_seg (k := x) (a := i 1 x 1) (b := i 1 x 2 + i 1 x 3) (c := rr) h.1 x0 (by omega) (by omega) (by omega) (by omega) rb.1 rb.2
  rw [ep, eq, Option.bind_some, Option.bind_some, eu_X1_load_152, eu_X37_load_184]; unfold du_X1_load_152 du_X37_load_184
  obtain ⟨u2, w2, f1, f2, f3⟩ := jstep2 (A := jc4 b_X1_load_152) (B := jc5 b_X37_load_184) (fun _ u w => LdI s t C T i x u w) (fun k => [C, x, i 1 x 1, k]) (fun k => [T, x, i 1 x 1, i 1 x 2, k]) 0 (i 1 x 2) (by omega) (h.stp hq) (fun k u w k0 k1 h => by
    obtain ⟨hT, hI, hJ, vi, gi⟩ := hC.kp h.2.1 h.2.2.1
    obtain ⟨b, eb, eb', hb⟩ := q_byte2 (a := i 1 x 1 + k) hT hI hJ vi
    obtain ⟨b0, b1⟩ := hb ⟨x, x0, x1, c, by omega, by unfold enI; omega⟩
    obtain ⟨p, ep, hp⟩ := ml_poke (a := i 1 x 1 + k) (v := b) h.1 (by omega) (by omega) b0 b1
    refine ⟨p.1, jp w 1000 (T + 130 + 3) (i 1 x 1 + k) b, ?_, ?_, h.stp hp⟩
    · show b_X1_load_152 u C x (i 1 x 1) k = _
      unfold b_X1_load_152
      rw [i_qAb hI, Option.bind_some, qn 2 (by omega) (by omega), if_pos k1, W32_in (z := i 1 x 1 + k) (by omega) (by omega), eb, Option.bind_some, ep, Option.bind_some, W32_in (by omega) (by omega)]
    · show b_X37_load_184 w T x (i 1 x 1) (i 1 x 2) k = _
      unfold b_X37_load_184
      rw [if_pos k1, W32_in (z := i 1 x 1 + k) (by omega) (by omega), eb', Option.bind_some, jst_in (by omega) (by omega), Option.bind_some, W32_in (by omega) (by omega)])
  rw [f1, f2]
  obtain ⟨hT, hI, hJ, vi, gi⟩ := hC.kp f3.2.1 f3.2.2.1
  rw [jlpW_r (r := u_X1_load_203 u2 C x (i 1 x 1)) (by
    show b_X1_load_152 u2 C x (i 1 x 1) (i 1 x 2) = _
    unfold b_X1_load_152
    rw [i_qAb hI, Option.bind_some, qn 2 (by omega) (by omega), if_neg (by omega)]), jlpW_r (r := u_X37_load_220 w2 T x) (by
    show b_X37_load_184 w2 T x (i 1 x 1) (i 1 x 2) (i 1 x 2) = _
    unfold b_X37_load_184
    rw [if_neg (by omega)]), e220, eu_X1_load_203]
  unfold du_X1_load_203
  by_cases d : x = 2
  · rw [if_pos d, W32_in (by omega) (by omega), c_set3, Option.bind_some, e224]
    refine ⟨_, _, rfl, rfl, f3.1.r3, f3.2.1.trans ((jFx.rfl.jp rfl (by omega) (by omega)).jp rfl (by omega) (by omega)), f3.2.2.1, fun k k0 k1 => ?_, f3.2.2.2.2⟩
    rw [jf_neg (by omega)]
    subst d
    by_cases e : k = 3
    · rw [jf_pos ⟨rfl, rfl, e⟩, if_pos ⟨e, by omega, c⟩]
    · rw [jf_neg (by omega), f3.2.2.2.1 k k0 k1, if_neg (fun z => e z.1), if_neg (fun z => e z.1)]
  · rw [if_neg d, e224]
    exact ⟨_, _, rfl, rfl, f3.nx (.inl d) x1⟩
end jLoad2
