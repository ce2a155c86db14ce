/-! an image is loaded: steps of both machines -/
section jLoad
variable {s t u r q : jS} {C T M U O X n x k w a v b c : Int} {i : Int → Int → Int → Int}
/-- a step while an image is loaded -/
def MlQ (s t r q : jS) (M U : Int) : Prop := Ml r M q U ∧ jFx s r M 119 ∧ jFm t q U 13 ∧ (∀ k, jf r 1000 (M + 4) k = jf s 1000 (M + 4) k) ∧ ∀ k, jf q 1000 (U + 9) k = jf t 1000 (U + 9) k
theorem MlQ.rfl (h : Ml s M t U) : MlQ s t s t M U := ⟨h, jFx.rfl, jFm.rfl, fun _ => Eq.refl _, fun _ => Eq.refl _⟩
theorem MlQ.trans {r' q' : jS} (h : MlQ s t r q M U) (g : MlQ r q r' q' M U) : MlQ s t r' q' M U := ⟨g.1, h.2.1.trans g.2.1, h.2.2.1.trans g.2.2.1, fun k => (g.2.2.2.1 k).trans (h.2.2.2.1 k), fun k => (g.2.2.2.2 k).trans (h.2.2.2.2 k)⟩
theorem ml_seg (h : Ml s M t U) (k0 : 0 ≤ k) (k1 : k < 8) (a0 : 0 ≤ a) (b0 : 0 ≤ b) (ab : a + b ≤ 131072) (c0 : 0 ≤ c) (c1 : c ≤ 7) : jE2 (m_X29_segment s M k a b c) (m_X43_segment t U k a b c) fun r q => MlQ s t r.1 q.1 M U := by
  obtain ⟨hK, hP, hMem, hMark, hSeg, hIn, hOut, hHalt, hSc, hRing, hd23⟩ := h
  rw [em_X29_segment, em_X43_segment]; unfold dm_X29_segment dm_X43_segment
  have a1 : ¬ k < 0 := by omega
  have a2 : ¬ 7 < k := by omega
  have a3 : ¬ a < 0 := by omega
  have a4 : ¬ b < 0 := by omega
  have a5 : ¬ 131072 < a + b := by omega
  have a6 : ¬ c < 0 := by omega
  have a7 : ¬ 7 < c := by omega
  have e : M + 3 + 7 + 1 * k = M + 10 + k := by omega
  simp only [em_X29_forget, dm_X29_forget, em_X43_forget, dm_X43_forget, L_cmp_gt, W64_in (show -9223372036854775808 ≤ a + b by omega) (show a + b ≤ 9223372036854775807 by omega), a1, a2, k1, a3, a4, a5, a6, a7, e, jix_in k0 k1, jst_in k0 k1, eq_self, and_false, false_and, and_true, true_and, if_true, if_false, reduceIte, Int.reduceEq, Int.reduceLT, Int.reduceLE, Int.reduceNeg, not_false_eq_true, Option.bind_some, jls]
  refine jE2_some.mpr ⟨?_, ?_, ?_, ?_, ?_⟩
  · (unfold Ml; simp only [eq_self, or_true, true_or, or_false, false_or, jfc_jp, jupp_p, jup_a, Int.add_right_inj, Int.add_left_inj, Int.reduceEq, if_true, if_false, true_and, and_true, false_and, and_false, reduceIte]; refine ⟨hK, hP.at (by simp only [eq_self, or_true, true_or, or_false, false_or, jfc_jp, jupp_p, jup_a, Int.add_right_inj, Int.add_left_inj, Int.reduceEq, if_true, if_false, true_and, and_true, false_and, and_false, reduceIte]), hMem, hMark, ?_, (by unfold MrIn at *; simp only [eq_self, or_true, true_or, or_false, false_or, jfc_jp, jupp_p, jup_a, Int.add_right_inj, Int.add_left_inj, Int.reduceEq, if_true, if_false, true_and, and_true, false_and, and_false, reduceIte]; exact hIn), hOut, (by unfold MrHalt at *; simp only [eq_self, or_true, true_or, or_false, false_or, jfc_jp, jupp_p, jup_a, Int.add_right_inj, Int.add_left_inj, Int.reduceEq, if_true, if_false, true_and, and_true, false_and, and_false, reduceIte]; exact hHalt), (by unfold Lsc at *; simp only [eq_self, or_true, true_or, or_false, false_or, jfc_jp, jupp_p, jup_a, Int.add_right_inj, Int.add_left_inj, Int.reduceEq, if_true, if_false, true_and, and_true, false_and, and_false, reduceIte]; omega), (hRing.zero (by simp only [eq_self, or_true, true_or, or_false, false_or, jfc_jp, jupp_p, jup_a, Int.add_right_inj, Int.add_left_inj, Int.reduceEq, if_true, if_false, true_and, and_true, false_and, and_false, reduceIte]) (by simp only [eq_self, or_true, true_or, or_false, false_or, jfc_jp, jupp_p, jup_a, Int.add_right_inj, Int.add_left_inj, Int.reduceEq, if_true, if_false, true_and, and_true, false_and, and_false, reduceIte]) (by simp only [eq_self, or_true, true_or, or_false, false_or, jfc_jp, jupp_p, jup_a, Int.add_right_inj, Int.add_left_inj, Int.reduceEq, if_true, if_false, true_and, and_true, false_and, and_false, reduceIte]) (by simp only [eq_self, or_true, true_or, or_false, false_or, jfc_jp, jupp_p, jup_a, Int.add_right_inj, Int.add_left_inj, Int.reduceEq, if_true, if_false, true_and, and_true, false_and, and_false, reduceIte]))⟩)
    intro j j0 j1
    have q := hSeg j j0 j1
    simp only [jupp_a, jup_a]
    by_cases e : j = k
    · subst e
      simp only [eq_self, or_true, true_or, or_false, false_or, jfc_jp, jupp_p, jup_a, Int.add_right_inj, Int.add_left_inj, Int.reduceEq, if_true, if_false, true_and, and_true, false_and, and_false, reduceIte]
      omega
    · have e' : ¬ M + 10 + j = M + 10 + k := by omega
      simp only [e, e', eq_self, or_true, true_or, or_false, false_or, jfc_jp, jupp_p, jup_a, Int.add_right_inj, Int.add_left_inj, Int.reduceEq, if_true, if_false, true_and, and_true, false_and, and_false, reduceIte]
      exact q
  · exact (((jFx.rfl.jp rfl (by omega) (by omega)).jp rfl (by omega) (by omega)).jp rfl (by omega) (by omega)).jp rfl (by omega) (by omega)
  · (repeat' (first | exact jFm.rfl | refine jFm.jp ?_ (by omega) (by omega)))
  · intro k; simp only [eq_self, or_true, true_or, or_false, false_or, jfc_jp, jupp_p, jup_a, Int.add_right_inj, Int.add_left_inj, Int.reduceEq, if_true, if_false, true_and, and_true, false_and, and_false, reduceIte]
  · intro k; simp only [eq_self, or_true, true_or, or_false, false_or, jfc_jp, jupp_p, jup_a, Int.add_right_inj, Int.add_left_inj, Int.reduceEq, if_true, if_false, true_and, and_true, false_and, and_false, reduceIte]
theorem ml_poke (h : Ml s M t U) (a0 : 0 ≤ a) (a1 : a < 131072) (v0 : 0 ≤ v) (v1 : v < 256) : jE (m_X29_poke s M a 1 (L_shl v 56)) fun r => MlQ s t r.1 (jp t 1000 (U + 3) a v) M U := by
  obtain ⟨hK, hP, hMem, hMark, hSeg, hIn, hOut, hHalt, hSc, hRing, hd23⟩ := h
  rw [em_X29_poke]; unfold dm_X29_poke
  have eb : W8 (W8 (L2i (L_shr (L_shl v 56) (W32 (56 - W32 (8 * 0)))))) = sb v := by
    rw [w56 (by omega) (by omega), W8_W8]
    have := shl56 v
    unfold bE at this
    rw [this, show v % 256 = v by omega]
  rw [if_neg (show ¬ (1 : Int) < 1 by omega), if_neg (show ¬ (8 : Int) < 1 by omega), s_X29_beyond, if_pos ⟨a0, a1⟩, Option.bind_some, if_pos rfl, s_X29_beyond, W32_in (z := a + 1) (by omega) (by omega), W32_in (z := a + 1 - 1) (by omega) (by omega), if_pos (show 0 ≤ a + 1 - 1 ∧ a + 1 - 1 < 131072 by omega), Option.bind_some, if_pos rfl, eu_X29_poke_34]; unfold du_X29_poke_34
  rw [jlpW_l (s' := jp s 1001 (M + 1) a (sb v)) (vs' := [M, a, 1, L_shl v 56, 1]) (by
    show b_X29_poke_34 s M a 1 (L_shl v 56) 0 = _
    unfold b_X29_poke_34
    rw [if_pos (show (0 : Int) < 1 by omega), W32_in (z := a + 0) (by omega) (by omega), Int.add_zero, jst_in a0 a1, Option.bind_some, eb, W32_in (z := 0 + 1) (by omega) (by omega)]; rfl), jlpW_r (r := some (jp (jp s 1001 (M + 1) a (sb v)) 33 M 21 0, 1)) (by
    show b_X29_poke_34 _ M a 1 (L_shl v 56) 1 = _
    unfold b_X29_poke_34
    rw [if_neg (show ¬ (1 : Int) < 1 by omega)]
    simp only [em_X29_poke, dm_X29_poke, eu_X29_poke_67, du_X29_poke_67, em_X29_forget, dm_X29_forget, jls, Option.bind_some, Wz_1])]
  refine jS_end ⟨?_, ?_, ?_, ?_, ?_⟩
  · (unfold Ml; simp only [eq_self, or_true, true_or, or_false, false_or, jfc_jp, jupp_p, jup_a, Int.add_right_inj, Int.add_left_inj, Int.reduceEq, if_true, if_false, true_and, and_true, false_and, and_false, reduceIte]; refine ⟨hK, hP.at (by simp only [eq_self, or_true, true_or, or_false, false_or, jfc_jp, jupp_p, jup_a, Int.add_right_inj, Int.add_left_inj, Int.reduceEq, if_true, if_false, true_and, and_true, false_and, and_false, reduceIte]), ?_, hMark, hSeg, (by unfold MrIn at *; simp only [eq_self, or_true, true_or, or_false, false_or, jfc_jp, jupp_p, jup_a, Int.add_right_inj, Int.add_left_inj, Int.reduceEq, if_true, if_false, true_and, and_true, false_and, and_false, reduceIte]; exact hIn), hOut, (by unfold MrHalt at *; simp only [eq_self, or_true, true_or, or_false, false_or, jfc_jp, jupp_p, jup_a, Int.add_right_inj, Int.add_left_inj, Int.reduceEq, if_true, if_false, true_and, and_true, false_and, and_false, reduceIte]; exact hHalt), (by unfold Lsc at *; simp only [eq_self, or_true, true_or, or_false, false_or, jfc_jp, jupp_p, jup_a, Int.add_right_inj, Int.add_left_inj, Int.reduceEq, if_true, if_false, true_and, and_true, false_and, and_false, reduceIte]; omega), (hRing.zero (by simp only [eq_self, or_true, true_or, or_false, false_or, jfc_jp, jupp_p, jup_a, Int.add_right_inj, Int.add_left_inj, Int.reduceEq, if_true, if_false, true_and, and_true, false_and, and_false, reduceIte]) (by simp only [eq_self, or_true, true_or, or_false, false_or, jfc_jp, jupp_p, jup_a, Int.add_right_inj, Int.add_left_inj, Int.reduceEq, if_true, if_false, true_and, and_true, false_and, and_false, reduceIte]) hd23 _root_.rfl), hd23⟩)
    exact hMem.put v0 v1
  · exact (jFx.rfl.jp (jSs_a (by omega) rfl _) (by omega) (by omega)).jp rfl (by omega) (by omega)
  · (repeat' (first | exact jFm.rfl | refine jFm.jp ?_ (by omega) (by omega)))
  · intro k; simp only [eq_self, or_true, true_or, or_false, false_or, jfc_jp, jupp_p, jup_a, Int.add_right_inj, Int.add_left_inj, Int.reduceEq, if_true, if_false, true_and, and_true, false_and, and_false, reduceIte]
  · intro k; simp only [eq_self, or_true, true_or, or_false, false_or, jfc_jp, jupp_p, jup_a, Int.add_right_inj, Int.add_left_inj, Int.reduceEq, if_true, if_false, true_and, and_true, false_and, and_false, reduceIte]
theorem ml_mark (h : Ml s M t U) (a0 : 0 ≤ a) (a1 : a < 131072) (a2 : a % 2 = 0) : jE2 (m_X29_mark s M a 1) (m_X43_mark t U a 1) fun r q => MlQ s t r.1 q.1 M U := by
  obtain ⟨hK, hP, hMem, hMark, hSeg, hIn, hOut, hHalt, hSc, hRing, hd23⟩ := h
  rw [em_X29_mark, em_X43_mark]; unfold dm_X29_mark dm_X43_mark
  have a3 : 0 ≤ a ∧ a < 131072 := ⟨a0, a1⟩
  have a4 : ¬ a < 0 := by omega
  have e1 : I_rem a 2 = a % 2 := I_rem_n (by omega) (by omega) (by omega) (by omega)
  have e2 : I_div a 2 = a / 2 := I_div_n (by omega) (by omega) (by omega) (by omega)
  have e3 : I_shr a 1 = a / 2 := i_shr_p ⟨by omega, by omega⟩ (by omega) (by omega)
  simp only [s_X29_beyond, em_X29_forget, dm_X29_forget, em_X43_forget, dm_X43_forget, a1, a3, a4, and_self, e1, e2, e3, I_and_1, a2, jdv_in (show ¬ (2 : Int) = 0 by decide), jst_in (show 0 ≤ a / 2 by omega) (show a / 2 < 65536 by omega), eq_self, and_false, false_and, and_true, true_and, if_true, if_false, reduceIte, Int.reduceEq, Int.reduceLT, Int.reduceLE, Int.reduceNeg, not_false_eq_true, Option.bind_some, jls]
  refine jE2_some.mpr ⟨?_, ?_, ?_, ?_, ?_⟩
  · (unfold Ml; simp only [eq_self, or_true, true_or, or_false, false_or, jfc_jp, jupp_p, jup_a, Int.add_right_inj, Int.add_left_inj, Int.reduceEq, if_true, if_false, true_and, and_true, false_and, and_false, reduceIte]; refine ⟨hK, hP.at (by simp only [eq_self, or_true, true_or, or_false, false_or, jfc_jp, jupp_p, jup_a, Int.add_right_inj, Int.add_left_inj, Int.reduceEq, if_true, if_false, true_and, and_true, false_and, and_false, reduceIte]), hMem, ?_, hSeg, (by unfold MrIn at *; simp only [eq_self, or_true, true_or, or_false, false_or, jfc_jp, jupp_p, jup_a, Int.add_right_inj, Int.add_left_inj, Int.reduceEq, if_true, if_false, true_and, and_true, false_and, and_false, reduceIte]; exact hIn), hOut, (by unfold MrHalt at *; simp only [eq_self, or_true, true_or, or_false, false_or, jfc_jp, jupp_p, jup_a, Int.add_right_inj, Int.add_left_inj, Int.reduceEq, if_true, if_false, true_and, and_true, false_and, and_false, reduceIte]; exact hHalt), (by unfold Lsc at *; simp only [eq_self, or_true, true_or, or_false, false_or, jfc_jp, jupp_p, jup_a, Int.add_right_inj, Int.add_left_inj, Int.reduceEq, if_true, if_false, true_and, and_true, false_and, and_false, reduceIte]; omega), (hRing.zero (by simp only [eq_self, or_true, true_or, or_false, false_or, jfc_jp, jupp_p, jup_a, Int.add_right_inj, Int.add_left_inj, Int.reduceEq, if_true, if_false, true_and, and_true, false_and, and_false, reduceIte]) (by simp only [eq_self, or_true, true_or, or_false, false_or, jfc_jp, jupp_p, jup_a, Int.add_right_inj, Int.add_left_inj, Int.reduceEq, if_true, if_false, true_and, and_true, false_and, and_false, reduceIte]) (by simp only [eq_self, or_true, true_or, or_false, false_or, jfc_jp, jupp_p, jup_a, Int.add_right_inj, Int.add_left_inj, Int.reduceEq, if_true, if_false, true_and, and_true, false_and, and_false, reduceIte]) (by simp only [eq_self, or_true, true_or, or_false, false_or, jfc_jp, jupp_p, jup_a, Int.add_right_inj, Int.add_left_inj, Int.reduceEq, if_true, if_false, true_and, and_true, false_and, and_false, reduceIte]))⟩)
    intro k k0 k1
    simp only [jup_a]
    split
    · rfl
    · exact hMark k k0 k1
  · exact (jFx.rfl.jp (jSs_a (by omega) rfl _) (by omega) (by omega)).jp rfl (by omega) (by omega)
  · (repeat' (first | exact jFm.rfl | refine jFm.jp ?_ (by omega) (by omega)))
  · intro k; simp only [eq_self, or_true, true_or, or_false, false_or, jfc_jp, jupp_p, jup_a, Int.add_right_inj, Int.add_left_inj, Int.reduceEq, if_true, if_false, true_and, and_true, false_and, and_false, reduceIte]
  · intro k; simp only [eq_self, or_true, true_or, or_false, false_or, jfc_jp, jupp_p, jup_a, Int.add_right_inj, Int.add_left_inj, Int.reduceEq, if_true, if_false, true_and, and_true, false_and, and_false, reduceIte]
end jLoad
