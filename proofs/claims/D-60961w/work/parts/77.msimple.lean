/-! the machines' simple calls -/
section jMsimple
variable {s t : jS} {M U : Int}
theorem MrQ_same {v : Int} (h : Mr s M t U) : MrQ s M t U (s, v) (t, v) := ⟨rfl, h, jFm.rfl, jFm.rfl⟩
theorem MrRing.zero {C D C' D' : Int → Int} {f f' : Int → Int → Int} {g g' : Int → Int} (h : MrRing M C D f g) (h1 : C' 20 = C 20) (h2 : C' 21 = 0) (h3 : D' 23 = 0) (h4 : D' 24 = D 24) : MrRing M C' D' f' g' := by
  unfold MrRing at *
  refine ⟨by omega, by omega, by omega, by omega, by omega, by omega, by omega, fun j a b => by omega⟩
theorem p_set {r v : Int} (h : Mr s M t U) (hv : -2147483648 ≤ v ∧ v ≤ 2147483647) : jE2 (m_X29_set s M r v) (m_X43_set t U r v) (MrQ s M t U) := by
  have hh := h
  obtain ⟨hK, hP, hMem, hMark, hSeg, hReg, hIn, hOut, hHalt, hSc, hRing⟩ := hh
  rw [em_X29_set, em_X43_set]; unfold dm_X29_set dm_X43_set
  simp only [em_X29_set, dm_X29_set, eu_X29_set_66, du_X29_set_66, eu_X29_set_26, du_X29_set_26, em_X29_forget, dm_X29_forget, em_X43_set, dm_X43_set, eu_X43_set_66, du_X43_set_66, eu_X43_set_50, du_X43_set_50, eu_X43_set_39, du_X43_set_39, eu_X43_set_26, du_X43_set_26, em_X43_forget, dm_X43_forget, jls, Option.bind_some]
  by_cases a1 : r < 1
  · simp only [a1, eq_self, and_false, false_and, and_true, true_and, if_true, if_false, reduceIte, Int.reduceEq, Int.reduceLT, Int.reduceLE, Int.reduceNeg, not_false_eq_true, Option.bind_some, jls]; exact jE2_some.mpr (MrQ_same h)
  by_cases a2 : 33 < r
  · simp only [a1, a2, eq_self, and_false, false_and, and_true, true_and, if_true, if_false, reduceIte, Int.reduceEq, Int.reduceLT, Int.reduceLE, Int.reduceNeg, not_false_eq_true, Option.bind_some, jls]; exact jE2_some.mpr (MrQ_same h)
  by_cases a3 : r = 32
  · subst a3
    by_cases a4 : I_and v 1 = 1
    · simp only [a1, a2, a4, eq_self, and_false, false_and, and_true, true_and, if_true, if_false, reduceIte, Int.reduceEq, Int.reduceLT, Int.reduceLE, Int.reduceNeg, not_false_eq_true, Option.bind_some, jls]; exact jE2_some.mpr (MrQ_same h)
    simp only [a4, eq_self, and_false, false_and, and_true, true_and, if_true, if_false, reduceIte, Int.reduceEq, Int.reduceLT, Int.reduceLE, Int.reduceNeg, not_false_eq_true, Option.bind_some, jls]
    rw [I_and_1] at a4
    refine jE2_some.mpr ⟨rfl, ?_, ?_, ?_⟩
    · unfold Mr; simp only [eq_self, or_true, true_or, or_false, false_or, jfc_jp, jupp_p, jup_a, Int.add_right_inj, Int.add_left_inj, Int.reduceEq, if_true, if_false, true_and, and_true, false_and, and_false, reduceIte]
      refine ⟨hK, hP.at (by simp only [eq_self, or_true, true_or, or_false, false_or, jfc_jp, jupp_p, jup_a, Int.add_right_inj, Int.add_left_inj, Int.reduceEq, if_true, if_false, true_and, and_true, false_and, and_false, reduceIte]), hMem, hMark, hSeg, hReg, ?_, hOut, ?_, ?_, hRing.zero ?_ ?_ ?_ ?_⟩
      · unfold MrIn at *; simp only [eq_self, or_true, true_or, or_false, false_or, jfc_jp, jupp_p, jup_a, Int.add_right_inj, Int.add_left_inj, Int.reduceEq, if_true, if_false, true_and, and_true, false_and, and_false, reduceIte]; exact hIn
      · unfold MrHalt at *; simp only [eq_self, or_true, true_or, or_false, false_or, jfc_jp, jupp_p, jup_a, Int.add_right_inj, Int.add_left_inj, Int.reduceEq, if_true, if_false, true_and, and_true, false_and, and_false, reduceIte]; exact hHalt
      · unfold MrSc at *; simp only [eq_self, or_true, true_or, or_false, false_or, jfc_jp, jupp_p, jup_a, Int.add_right_inj, Int.add_left_inj, Int.reduceEq, if_true, if_false, true_and, and_true, false_and, and_false, reduceIte]; omega
      all_goals simp only [eq_self, or_true, true_or, or_false, false_or, jfc_jp, jupp_p, jup_a, Int.add_right_inj, Int.add_left_inj, Int.reduceEq, if_true, if_false, true_and, and_true, false_and, and_false, reduceIte]
    all_goals (repeat' (first | exact jFm.rfl | refine jFm.jp ?_ (by omega) (by omega)))
  by_cases a4 : r < 32
  · have a5 : ¬ r = 33 := by omega
    simp only [a1, a2, a3, a4, a5, jst_in (show 0 ≤ r by omega) a4, eq_self, and_false, false_and, and_true, true_and, if_true, if_false, reduceIte, Int.reduceEq, Int.reduceLT, Int.reduceLE, Int.reduceNeg, not_false_eq_true, Option.bind_some, jls]
    refine jE2_some.mpr ⟨rfl, ?_, ?_, ?_⟩
    · unfold Mr; simp only [eq_self, or_true, true_or, or_false, false_or, jfc_jp, jupp_p, jup_a, Int.add_right_inj, Int.add_left_inj, Int.reduceEq, if_true, if_false, true_and, and_true, false_and, and_false, reduceIte]
      refine ⟨hK, hP.at (by simp only [eq_self, or_true, true_or, or_false, false_or, jfc_jp, jupp_p, jup_a, Int.add_right_inj, Int.add_left_inj, Int.reduceEq, if_true, if_false, true_and, and_true, false_and, and_false, reduceIte]), hMem, hMark, hSeg, ?_, ?_, hOut, ?_, ?_, hRing.zero ?_ ?_ ?_ ?_⟩
      · unfold MrReg at *
        refine ⟨fun k k0 k1 => ?_, ?_⟩
        · simp only [jup_a]
          by_cases e : k = r
          · rw [if_pos e, if_pos e]; omega
          · rw [if_neg e, if_neg e]; exact hReg.1 k k0 k1
        · rw [jup_a, if_neg (by omega)]; exact hReg.2
      · unfold MrIn at *; simp only [eq_self, or_true, true_or, or_false, false_or, jfc_jp, jupp_p, jup_a, Int.add_right_inj, Int.add_left_inj, Int.reduceEq, if_true, if_false, true_and, and_true, false_and, and_false, reduceIte]; exact hIn
      · unfold MrHalt at *; simp only [eq_self, or_true, true_or, or_false, false_or, jfc_jp, jupp_p, jup_a, Int.add_right_inj, Int.add_left_inj, Int.reduceEq, if_true, if_false, true_and, and_true, false_and, and_false, reduceIte]; exact hHalt
      · unfold MrSc at *; simp only [eq_self, or_true, true_or, or_false, false_or, jfc_jp, jupp_p, jup_a, Int.add_right_inj, Int.add_left_inj, Int.reduceEq, if_true, if_false, true_and, and_true, false_and, and_false, reduceIte]; omega
      all_goals simp only [eq_self, or_true, true_or, or_false, false_or, jfc_jp, jupp_p, jup_a, Int.add_right_inj, Int.add_left_inj, Int.reduceEq, if_true, if_false, true_and, and_true, false_and, and_false, reduceIte]
    all_goals (repeat' (first | exact jFm.rfl | refine jFm.jp ?_ (by omega) (by omega)))
  · have a5 : r = 33 := by omega
    subst a5
    simp only [eq_self, and_false, false_and, and_true, true_and, if_true, if_false, reduceIte, Int.reduceEq, Int.reduceLT, Int.reduceLE, Int.reduceNeg, not_false_eq_true, Option.bind_some, jls]
    refine jE2_some.mpr ⟨rfl, ?_, ?_, ?_⟩
    · unfold Mr; simp only [eq_self, or_true, true_or, or_false, false_or, jfc_jp, jupp_p, jup_a, Int.add_right_inj, Int.add_left_inj, Int.reduceEq, if_true, if_false, true_and, and_true, false_and, and_false, reduceIte]
      refine ⟨hK, hP.at (by simp only [eq_self, or_true, true_or, or_false, false_or, jfc_jp, jupp_p, jup_a, Int.add_right_inj, Int.add_left_inj, Int.reduceEq, if_true, if_false, true_and, and_true, false_and, and_false, reduceIte]), hMem, hMark, hSeg, hReg, ?_, hOut, ?_, ?_, hRing.zero ?_ ?_ ?_ ?_⟩
      · unfold MrIn at *; simp only [eq_self, or_true, true_or, or_false, false_or, jfc_jp, jupp_p, jup_a, Int.add_right_inj, Int.add_left_inj, Int.reduceEq, if_true, if_false, true_and, and_true, false_and, and_false, reduceIte]; exact hIn
      · unfold MrHalt at *; simp only [eq_self, or_true, true_or, or_false, false_or, jfc_jp, jupp_p, jup_a, Int.add_right_inj, Int.add_left_inj, Int.reduceEq, if_true, if_false, true_and, and_true, false_and, and_false, reduceIte]; exact hHalt
      · unfold MrSc at *; simp only [eq_self, or_true, true_or, or_false, false_or, jfc_jp, jupp_p, jup_a, Int.add_right_inj, Int.add_left_inj, Int.reduceEq, if_true, if_false, true_and, and_true, false_and, and_false, reduceIte]; omega
      all_goals simp only [eq_self, or_true, true_or, or_false, false_or, jfc_jp, jupp_p, jup_a, Int.add_right_inj, Int.add_left_inj, Int.reduceEq, if_true, if_false, true_and, and_true, false_and, and_false, reduceIte]
    all_goals (repeat' (first | exact jFm.rfl | refine jFm.jp ?_ (by omega) (by omega)))
end jMsimple
section jMsimple2
variable {s t : jS} {M U : Int}
theorem p_get {r : Int} (h : Mr s M t U) : jE2 (m_X29_get s M r) (m_X43_get t U r) fun a b => a = b := by
  obtain ⟨hK, hP, hMem, hMark, hSeg, hReg, hIn, hOut, hHalt, hSc, hRing⟩ := h
  rw [em_X29_get, em_X43_get]; unfold dm_X29_get dm_X43_get
  by_cases a1 : r = 32
  · simp only [a1, eq_self, and_false, false_and, and_true, true_and, if_true, if_false, reduceIte, Int.reduceEq, Int.reduceLT, Int.reduceLE, Int.reduceNeg, not_false_eq_true, Option.bind_some, jls]; exact jE2_some.mpr (by unfold MrSc at hSc; omega)
  by_cases a2 : r < 0
  · have a3 : ¬ 0 < r := by omega
    simp only [a1, a2, a3, eq_self, and_false, false_and, and_true, true_and, if_true, if_false, reduceIte, Int.reduceEq, Int.reduceLT, Int.reduceLE, Int.reduceNeg, not_false_eq_true, Option.bind_some, jls]; exact jE2_some.mpr rfl
  by_cases a3 : r < 32
  · by_cases a4 : 0 < r
    · simp only [a1, a2, a3, a4, jlt_in (show 0 ≤ r by omega) a3, eq_self, and_false, false_and, and_true, true_and, if_true, if_false, reduceIte, Int.reduceEq, Int.reduceLT, Int.reduceLE, Int.reduceNeg, not_false_eq_true, Option.bind_some, jls]; exact jE2_some.mpr (hReg.1 r (by omega) a3).1
    · have a5 : r = 0 := by omega
      subst a5
      simp only [jlt_in (show (0 : Int) ≤ 0 by omega) (show (0 : Int) < 32 by omega), eq_self, and_false, false_and, and_true, true_and, if_true, if_false, reduceIte, Int.reduceEq, Int.reduceLT, Int.reduceLE, Int.reduceNeg, not_false_eq_true, Option.bind_some, jls]; exact jE2_some.mpr ((hReg.1 0 (by omega) (by omega)).1.trans hReg.2)
  · by_cases a4 : 0 < r
    · simp only [a1, a2, a3, a4, eq_self, and_false, false_and, and_true, true_and, if_true, if_false, reduceIte, Int.reduceEq, Int.reduceLT, Int.reduceLE, Int.reduceNeg, not_false_eq_true, Option.bind_some, jls]; exact jE2_some.mpr rfl
    · omega
theorem s_X29_beyond (s : jS) (a : Int) : m_X29_beyond s a = some (if 0 ≤ a ∧ a < 131072 then 0 else 1) := by
  rw [em_X29_beyond]; unfold dm_X29_beyond
  rw [Wz_1, Wz_0]
  by_cases a1 : a < 0
  · rw [if_pos a1, if_neg (by omega)]
  · rw [if_neg a1]
    by_cases a2 : a < 131072
    · rw [if_pos a2, if_pos (by omega)]
    · rw [if_neg a2, if_neg (by omega)]
theorem p_peek {a : Int} (h : Mr s M t U) : jE2 (m_X29_peek s M a) (m_X43_peek t U a) fun a b => a = b := by
  obtain ⟨hK, hP, hMem, hMark, hSeg, hReg, hIn, hOut, hHalt, hSc, hRing⟩ := h
  rw [em_X29_peek, em_X43_peek]; unfold dm_X29_peek dm_X43_peek
  rw [s_X29_beyond, Option.bind_some]
  by_cases a1 : a < 0
  · have a2 : ¬ (0 ≤ a ∧ a < 131072) := by omega
    simp only [a1, a2, eq_self, and_false, false_and, and_true, true_and, if_true, if_false, reduceIte, Int.reduceEq, Int.reduceLT, Int.reduceLE, Int.reduceNeg, not_false_eq_true, Option.bind_some, jls]; exact jE2_some.mpr rfl
  by_cases a2 : a < 131072
  · have a3 : 0 ≤ a ∧ a < 131072 := by omega
    simp only [a1, a2, a3, and_self, jlt_in a3.1 a3.2, eq_self, and_false, false_and, and_true, true_and, if_true, if_false, reduceIte, Int.reduceEq, Int.reduceLT, Int.reduceLE, Int.reduceNeg, not_false_eq_true, Option.bind_some, jls]
    obtain ⟨q1, q2, q3⟩ := hMem a a3.1 a3.2
    exact jE2_some.mpr (by rw [q3, sb_and q1 q2])
  · have a3 : ¬ (0 ≤ a ∧ a < 131072) := by omega
    simp only [a1, a2, a3, eq_self, and_false, false_and, and_true, true_and, if_true, if_false, reduceIte, Int.reduceEq, Int.reduceLT, Int.reduceLE, Int.reduceNeg, not_false_eq_true, Option.bind_some, jls]; exact jE2_some.mpr rfl
theorem p_mark {a v : Int} (h : Mr s M t U) (ha : -2147483648 ≤ a ∧ a ≤ 2147483647) : jE2 (m_X29_mark s M a v) (m_X43_mark t U a v) (MrQ s M t U) := by
  have hh := h
  obtain ⟨hK, hP, hMem, hMark, hSeg, hReg, hIn, hOut, hHalt, hSc, hRing⟩ := hh
  rw [em_X29_mark, em_X43_mark]; unfold dm_X29_mark dm_X43_mark
  simp only [s_X29_beyond, em_X29_forget, dm_X29_forget, em_X43_forget, dm_X43_forget, eq_self, and_false, false_and, and_true, true_and, if_true, if_false, reduceIte, Int.reduceEq, Int.reduceLT, Int.reduceLE, Int.reduceNeg, not_false_eq_true, Option.bind_some, jls]
  by_cases a1 : a < 0
  · have a2 : ¬ (0 ≤ a ∧ a < 131072) := by omega
    simp only [a1, a2, eq_self, and_false, false_and, and_true, true_and, if_true, if_false, reduceIte, Int.reduceEq, Int.reduceLT, Int.reduceLE, Int.reduceNeg, not_false_eq_true, Option.bind_some, jls]; exact jE2_some.mpr (MrQ_same h)
  by_cases a2 : a < 131072
  · have a3 : 0 ≤ a ∧ a < 131072 := by omega
    have e1 : I_rem a 2 = a % 2 := I_rem_n (by omega) (by omega) (by omega) (by omega)
    have e2 : I_div a 2 = a / 2 := I_div_n (by omega) (by omega) (by omega) (by omega)
    have e3 : I_shr a 1 = a / 2 := i_shr_p ha (by omega) (by omega)
    simp only [a1, a2, a3, and_self, e1, e2, e3, I_and_1, jdv_in (show ¬ (2 : Int) = 0 by decide), eq_self, and_false, false_and, and_true, true_and, if_true, if_false, reduceIte, Int.reduceEq, Int.reduceLT, Int.reduceLE, Int.reduceNeg, not_false_eq_true, Option.bind_some, jls]
    by_cases a4 : a % 2 = 1
    · have a5 : ¬ a % 2 = 0 := by omega
      simp only [a4, eq_self, and_false, false_and, and_true, true_and, if_true, if_false, reduceIte, Int.reduceEq, Int.reduceLT, Int.reduceLE, Int.reduceNeg, not_false_eq_true, Option.bind_some, jls]; exact jE2_some.mpr (MrQ_same h)
    · have a5 : a % 2 = 0 := by omega
      simp only [a5, jst_in (show 0 ≤ a / 2 by omega) (show a / 2 < 65536 by omega), eq_self, and_false, false_and, and_true, true_and, if_true, if_false, reduceIte, Int.reduceEq, Int.reduceLT, Int.reduceLE, Int.reduceNeg, not_false_eq_true, Option.bind_some, jls]
      refine jE2_some.mpr ⟨rfl, ?_, ?_, ?_⟩
      · (unfold Mr; simp only [eq_self, or_true, true_or, or_false, false_or, jfc_jp, jupp_p, jup_a, Int.add_right_inj, Int.add_left_inj, Int.reduceEq, if_true, if_false, true_and, and_true, false_and, and_false, reduceIte]; refine ⟨hK, hP.at (by simp only [eq_self, or_true, true_or, or_false, false_or, jfc_jp, jupp_p, jup_a, Int.add_right_inj, Int.add_left_inj, Int.reduceEq, if_true, if_false, true_and, and_true, false_and, and_false, reduceIte]), hMem, ?_, hSeg, hReg, (by unfold MrIn at *; simp only [eq_self, or_true, true_or, or_false, false_or, jfc_jp, jupp_p, jup_a, Int.add_right_inj, Int.add_left_inj, Int.reduceEq, if_true, if_false, true_and, and_true, false_and, and_false, reduceIte]; exact hIn), hOut, (by unfold MrHalt at *; simp only [eq_self, or_true, true_or, or_false, false_or, jfc_jp, jupp_p, jup_a, Int.add_right_inj, Int.add_left_inj, Int.reduceEq, if_true, if_false, true_and, and_true, false_and, and_false, reduceIte]; exact hHalt), (by unfold MrSc at *; simp only [eq_self, or_true, true_or, or_false, false_or, jfc_jp, jupp_p, jup_a, Int.add_right_inj, Int.add_left_inj, Int.reduceEq, if_true, if_false, true_and, and_true, false_and, and_false, reduceIte]; omega), (hRing.zero (by simp only [eq_self, or_true, true_or, or_false, false_or, jfc_jp, jupp_p, jup_a, Int.add_right_inj, Int.add_left_inj, Int.reduceEq, if_true, if_false, true_and, and_true, false_and, and_false, reduceIte]) (by simp only [eq_self, or_true, true_or, or_false, false_or, jfc_jp, jupp_p, jup_a, Int.add_right_inj, Int.add_left_inj, Int.reduceEq, if_true, if_false, true_and, and_true, false_and, and_false, reduceIte]) (by simp only [eq_self, or_true, true_or, or_false, false_or, jfc_jp, jupp_p, jup_a, Int.add_right_inj, Int.add_left_inj, Int.reduceEq, if_true, if_false, true_and, and_true, false_and, and_false, reduceIte]) (by simp only [eq_self, or_true, true_or, or_false, false_or, jfc_jp, jupp_p, jup_a, Int.add_right_inj, Int.add_left_inj, Int.reduceEq, if_true, if_false, true_and, and_true, false_and, and_false, reduceIte]))⟩)
        intro k k0 k1
        simp only [jup_a]
        split
        · rfl
        · exact hMark k k0 k1
      all_goals (repeat' (first | exact jFm.rfl | refine jFm.jp ?_ (by omega) (by omega)))
  · have a3 : ¬ (0 ≤ a ∧ a < 131072) := by omega
    simp only [a1, a2, a3, eq_self, and_false, false_and, and_true, true_and, if_true, if_false, reduceIte, Int.reduceEq, Int.reduceLT, Int.reduceLE, Int.reduceNeg, not_false_eq_true, Option.bind_some, jls]; exact jE2_some.mpr (MrQ_same h)
theorem p_marking {v : Int} (h : Mr s M t U) (hv : v = 0 ∨ v = 1) : jE2 (m_X29_marking s M v) (m_X43_marking t U v) (MrQ s M t U) := by
  have hh := h
  obtain ⟨hK, hP, hMem, hMark, hSeg, hReg, hIn, hOut, hHalt, hSc, hRing⟩ := hh
  rw [em_X29_marking, em_X43_marking]; unfold dm_X29_marking dm_X43_marking
  simp only [jzb_in hv, em_X29_forget, dm_X29_forget, em_X43_forget, dm_X43_forget, eq_self, and_false, false_and, and_true, true_and, if_true, if_false, reduceIte, Int.reduceEq, Int.reduceLT, Int.reduceLE, Int.reduceNeg, not_false_eq_true, Option.bind_some, jls]
  refine jE2_some.mpr ⟨rfl, ?_, ?_, ?_⟩
  · (unfold Mr; simp only [eq_self, or_true, true_or, or_false, false_or, jfc_jp, jupp_p, jup_a, Int.add_right_inj, Int.add_left_inj, Int.reduceEq, if_true, if_false, true_and, and_true, false_and, and_false, reduceIte]; refine ⟨hK, hP.at (by simp only [eq_self, or_true, true_or, or_false, false_or, jfc_jp, jupp_p, jup_a, Int.add_right_inj, Int.add_left_inj, Int.reduceEq, if_true, if_false, true_and, and_true, false_and, and_false, reduceIte]), hMem, hMark, hSeg, hReg, (by unfold MrIn at *; simp only [eq_self, or_true, true_or, or_false, false_or, jfc_jp, jupp_p, jup_a, Int.add_right_inj, Int.add_left_inj, Int.reduceEq, if_true, if_false, true_and, and_true, false_and, and_false, reduceIte]; exact hIn), hOut, (by unfold MrHalt at *; simp only [eq_self, or_true, true_or, or_false, false_or, jfc_jp, jupp_p, jup_a, Int.add_right_inj, Int.add_left_inj, Int.reduceEq, if_true, if_false, true_and, and_true, false_and, and_false, reduceIte]; exact hHalt), (by unfold MrSc at *; simp only [eq_self, or_true, true_or, or_false, false_or, jfc_jp, jupp_p, jup_a, Int.add_right_inj, Int.add_left_inj, Int.reduceEq, if_true, if_false, true_and, and_true, false_and, and_false, reduceIte]; omega), (hRing.zero (by simp only [eq_self, or_true, true_or, or_false, false_or, jfc_jp, jupp_p, jup_a, Int.add_right_inj, Int.add_left_inj, Int.reduceEq, if_true, if_false, true_and, and_true, false_and, and_false, reduceIte]) (by simp only [eq_self, or_true, true_or, or_false, false_or, jfc_jp, jupp_p, jup_a, Int.add_right_inj, Int.add_left_inj, Int.reduceEq, if_true, if_false, true_and, and_true, false_and, and_false, reduceIte]) (by simp only [eq_self, or_true, true_or, or_false, false_or, jfc_jp, jupp_p, jup_a, Int.add_right_inj, Int.add_left_inj, Int.reduceEq, if_true, if_false, true_and, and_true, false_and, and_false, reduceIte]) (by simp only [eq_self, or_true, true_or, or_false, false_or, jfc_jp, jupp_p, jup_a, Int.add_right_inj, Int.add_left_inj, Int.reduceEq, if_true, if_false, true_and, and_true, false_and, and_false, reduceIte]))⟩)
  all_goals (repeat' (first | exact jFm.rfl | refine jFm.jp ?_ (by omega) (by omega)))
theorem p_segment {k a b c : Int} (h : Mr s M t U) (ha : -2147483648 ≤ a ∧ a ≤ 2147483647) (hb : -2147483648 ≤ b ∧ b ≤ 2147483647) : jE2 (m_X29_segment s M k a b c) (m_X43_segment t U k a b c) (MrQ s M t U) := by
  have hh := h
  obtain ⟨hK, hP, hMem, hMark, hSeg, hReg, hIn, hOut, hHalt, hSc, hRing⟩ := hh
  rw [em_X29_segment, em_X43_segment]; unfold dm_X29_segment dm_X43_segment
  simp only [em_X29_forget, dm_X29_forget, em_X43_forget, dm_X43_forget, L_cmp_gt, W64_in (show -9223372036854775808 ≤ a + b by omega) (show a + b ≤ 9223372036854775807 by omega), eq_self, and_false, false_and, and_true, true_and, if_true, if_false, reduceIte, Int.reduceEq, Int.reduceLT, Int.reduceLE, Int.reduceNeg, not_false_eq_true, Option.bind_some, jls]
  by_cases a1 : k < 0
  · simp only [a1, eq_self, and_false, false_and, and_true, true_and, if_true, if_false, reduceIte, Int.reduceEq, Int.reduceLT, Int.reduceLE, Int.reduceNeg, not_false_eq_true, Option.bind_some, jls]; exact jE2_some.mpr (MrQ_same h)
  by_cases a2 : k < 8
  · have a2' : ¬ 7 < k := by omega
    by_cases a3 : a < 0
    · simp only [a1, a2, a2', a3, eq_self, and_false, false_and, and_true, true_and, if_true, if_false, reduceIte, Int.reduceEq, Int.reduceLT, Int.reduceLE, Int.reduceNeg, not_false_eq_true, Option.bind_some, jls]; exact jE2_some.mpr (MrQ_same h)
    by_cases a4 : b < 0
    · simp only [a1, a2, a2', a3, a4, eq_self, and_false, false_and, and_true, true_and, if_true, if_false, reduceIte, Int.reduceEq, Int.reduceLT, Int.reduceLE, Int.reduceNeg, not_false_eq_true, Option.bind_some, jls]; exact jE2_some.mpr (MrQ_same h)
    by_cases a5 : 131072 < a + b
    · simp only [a1, a2, a2', a3, a4, a5, eq_self, and_false, false_and, and_true, true_and, if_true, if_false, reduceIte, Int.reduceEq, Int.reduceLT, Int.reduceLE, Int.reduceNeg, not_false_eq_true, Option.bind_some, jls]; exact jE2_some.mpr (MrQ_same h)
    by_cases a6 : c < 0
    · simp only [a1, a2, a2', a3, a4, a5, a6, eq_self, and_false, false_and, and_true, true_and, if_true, if_false, reduceIte, Int.reduceEq, Int.reduceLT, Int.reduceLE, Int.reduceNeg, not_false_eq_true, Option.bind_some, jls]; exact jE2_some.mpr (MrQ_same h)
    by_cases a7 : 7 < c
    · simp only [a1, a2, a2', a3, a4, a5, a6, a7, eq_self, and_false, false_and, and_true, true_and, if_true, if_false, reduceIte, Int.reduceEq, Int.reduceLT, Int.reduceLE, Int.reduceNeg, not_false_eq_true, Option.bind_some, jls]; exact jE2_some.mpr (MrQ_same h)
    have e : M + 3 + 7 + 1 * k = M + 10 + k := by omega
    simp only [a1, a2, a2', a3, a4, a5, a6, a7, e, jix_in (show 0 ≤ k by omega) a2, jst_in (show 0 ≤ k by omega) a2, eq_self, and_false, false_and, and_true, true_and, if_true, if_false, reduceIte, Int.reduceEq, Int.reduceLT, Int.reduceLE, Int.reduceNeg, not_false_eq_true, Option.bind_some, jls]
    refine jE2_some.mpr ⟨rfl, ?_, ?_, ?_⟩
    · (unfold Mr; simp only [eq_self, or_true, true_or, or_false, false_or, jfc_jp, jupp_p, jup_a, Int.add_right_inj, Int.add_left_inj, Int.reduceEq, if_true, if_false, true_and, and_true, false_and, and_false, reduceIte]; refine ⟨hK, hP.at (by simp only [eq_self, or_true, true_or, or_false, false_or, jfc_jp, jupp_p, jup_a, Int.add_right_inj, Int.add_left_inj, Int.reduceEq, if_true, if_false, true_and, and_true, false_and, and_false, reduceIte]), hMem, hMark, ?_, hReg, (by unfold MrIn at *; simp only [eq_self, or_true, true_or, or_false, false_or, jfc_jp, jupp_p, jup_a, Int.add_right_inj, Int.add_left_inj, Int.reduceEq, if_true, if_false, true_and, and_true, false_and, and_false, reduceIte]; exact hIn), hOut, (by unfold MrHalt at *; simp only [eq_self, or_true, true_or, or_false, false_or, jfc_jp, jupp_p, jup_a, Int.add_right_inj, Int.add_left_inj, Int.reduceEq, if_true, if_false, true_and, and_true, false_and, and_false, reduceIte]; exact hHalt), (by unfold MrSc at *; simp only [eq_self, or_true, true_or, or_false, false_or, jfc_jp, jupp_p, jup_a, Int.add_right_inj, Int.add_left_inj, Int.reduceEq, if_true, if_false, true_and, and_true, false_and, and_false, reduceIte]; omega), (hRing.zero (by simp only [eq_self, or_true, true_or, or_false, false_or, jfc_jp, jupp_p, jup_a, Int.add_right_inj, Int.add_left_inj, Int.reduceEq, if_true, if_false, true_and, and_true, false_and, and_false, reduceIte]) (by simp only [eq_self, or_true, true_or, or_false, false_or, jfc_jp, jupp_p, jup_a, Int.add_right_inj, Int.add_left_inj, Int.reduceEq, if_true, if_false, true_and, and_true, false_and, and_false, reduceIte]) (by simp only [eq_self, or_true, true_or, or_false, false_or, jfc_jp, jupp_p, jup_a, Int.add_right_inj, Int.add_left_inj, Int.reduceEq, if_true, if_false, true_and, and_true, false_and, and_false, reduceIte]) (by simp only [eq_self, or_true, true_or, or_false, false_or, jfc_jp, jupp_p, jup_a, Int.add_right_inj, Int.add_left_inj, Int.reduceEq, if_true, if_false, true_and, and_true, false_and, and_false, reduceIte]))⟩)
      intro j j0 j1
      have q := hSeg j j0 j1
      simp only [jupp_a, jup_a]
      by_cases e : j = k
      · subst e
        simp only [eq_self, or_true, true_or, or_false, false_or, jfc_jp, jupp_p, jup_a, Int.add_right_inj, Int.add_left_inj, Int.reduceEq, if_true, if_false, true_and, and_true, false_and, and_false, reduceIte]
        omega
      · have e' : ¬ M + 10 + j = M + 10 + k := by omega
        simp only [e, e', eq_self, or_true, true_or, or_false, false_or, jfc_jp, jupp_p, jup_a, Int.add_right_inj, Int.add_left_inj, Int.reduceEq, if_true, if_false, true_and, and_true, false_and, and_false, reduceIte]
        exact q
    all_goals (repeat' (first | exact jFm.rfl | refine jFm.jp ?_ (by omega) (by omega)))
  · have a2' : 7 < k := by omega
    simp only [a1, a2, a2', eq_self, and_false, false_and, and_true, true_and, if_true, if_false, reduceIte, Int.reduceEq, Int.reduceLT, Int.reduceLE, Int.reduceNeg, not_false_eq_true, Option.bind_some, jls]; exact jE2_some.mpr (MrQ_same h)
theorem p_state {w : Int} (h : Mr s M t U) : jE2 (m_X29_state s M w) (m_X43_state t U w) fun a b => a = b := by
  obtain ⟨hK, hP, hMem, hMark, hSeg, hReg, hIn, hOut, hHalt, hSc, hRing⟩ := h
  unfold MrSc at hSc
  unfold MrIn at hIn
  unfold MrHalt at hHalt
  unfold MrRing at hRing
  rw [em_X29_state, em_X43_state]; unfold dm_X29_state dm_X43_state
  have e6 : jf s 33 M 16 - jf s 33 M 17 = jf t 47 U 13 - jf t 47 U 14 := by omega
  refine jE2_ite Iff.rfl (fun _ => jE2_some.mpr (by omega)) (fun _ => ?_)
  refine jE2_ite Iff.rfl (fun _ => jE2_some.mpr (by omega)) (fun _ => ?_)
  refine jE2_ite Iff.rfl (fun _ => jE2_some.mpr (by omega)) (fun _ => ?_)
  refine jE2_ite Iff.rfl (fun _ => jE2_some.mpr (by omega)) (fun _ => ?_)
  refine jE2_ite Iff.rfl (fun _ => jE2_some.mpr (by omega)) (fun _ => ?_)
  refine jE2_ite Iff.rfl (fun _ => jE2_some.mpr (by omega)) (fun _ => ?_)
  refine jE2_ite Iff.rfl (fun _ => jE2_some.mpr (by rw [e6])) (fun _ => ?_)
  refine jE2_ite Iff.rfl (fun _ => jE2_some.mpr (by omega)) (fun _ => ?_)
  refine jE2_ite Iff.rfl (fun _ => jE2_some.mpr (by omega)) (fun _ => jE2_some.mpr rfl)
theorem p_output {k : Int} (h : Mr s M t U) : jE2 (m_X29_output s M k) (m_X43_output t U k) fun a b => a = b := by
  obtain ⟨hK, hP, hMem, hMark, hSeg, hReg, hIn, hOut, hHalt, hSc, hRing⟩ := h
  unfold MrSc at hSc
  rw [em_X29_output, em_X43_output]; unfold dm_X29_output dm_X43_output
  refine jE2_ite Iff.rfl (fun _ => jE2_some.mpr rfl) (fun a1 => ?_)
  refine jE2_ite (by omega) (fun a2 => ?_) (fun _ => jE2_some.mpr rfl)
  have a3 : k < 2000 := by omega
  simp only [jlt_in (show 0 ≤ k by omega) a3, eq_self, and_false, false_and, and_true, true_and, if_true, if_false, reduceIte, Int.reduceEq, Int.reduceLT, Int.reduceLE, Int.reduceNeg, not_false_eq_true, Option.bind_some, jls]
  obtain ⟨q1, q2, q3⟩ := hOut k (by omega) a3
  exact jE2_some.mpr (by rw [q3, sb_and q1 q2])
end jMsimple2
section jMsimple3
variable {s t : jS} {M U : Int}
theorem L2i_mod8 (x : Int) : L2i x % 256 = x % 256 := by
  rw [l2i_p]
  have := W32_mod x
  omega
theorem byte_pair {x y : Int} (hx : -9223372036854775808 ≤ x ∧ x ≤ 9223372036854775807) (h0 : 0 ≤ y) (h1 : y ≤ 63) : W8 (W8 (L2i (L_shr x y))) = sb (L2i (L_and (L_shr x y) 255)) ∧ 0 ≤ L2i (L_and (L_shr x y) 255) ∧ L2i (L_and (L_shr x y) 255) < 256 := by
  have h : 0 ≤ L_shr x y % 256 ∧ L_shr x y % 256 < 256 := ⟨Int.emod_nonneg _ (by decide), Int.emod_lt_of_pos _ (by decide)⟩
  rw [W8_W8, L2i_mod8, L_and_255, l2i_in (by omega) (by omega)]
  exact ⟨rfl, h.1, h.2⟩
theorem MrMem.put {f g : Int → Int} {k v : Int} (h : MrMem f g) (h0 : 0 ≤ v) (h1 : v < 256) : MrMem (jup f k (sb v)) (jup g k v) := by
  intro j j0 j1
  simp only [jup_a]
  by_cases e : j = k
  · simp only [if_pos e]; exact ⟨h0, h1, True.intro⟩
  · simp only [if_neg e]; exact h j j0 j1
theorem p_input {n v : Int} (h : Mr s M t U) (hn : -2147483648 ≤ n ∧ n ≤ 2147483647) (hv : -9223372036854775808 ≤ v ∧ v ≤ 9223372036854775807) : jE2 (m_X29_input s M n v) (m_X43_input t U n v) (MrQ s M t U) := by
  have hh := h
  rw [em_X29_input, em_X43_input]; unfold dm_X29_input dm_X43_input
  by_cases a1 : n < 1
  · simp only [a1, eq_self, and_false, false_and, and_true, true_and, if_true, if_false, reduceIte, Int.reduceEq, Int.reduceLT, Int.reduceLE, Int.reduceNeg, not_false_eq_true, Option.bind_some, jls]; exact jE2_some.mpr (MrQ_same h)
  by_cases a2 : 8 < n
  · simp only [a1, a2, eq_self, and_false, false_and, and_true, true_and, if_true, if_false, reduceIte, Int.reduceEq, Int.reduceLT, Int.reduceLE, Int.reduceNeg, not_false_eq_true, Option.bind_some, jls]; exact jE2_some.mpr (MrQ_same h)
  have hI := h.2.2.2.2.2.2.1
  unfold MrIn at hI
  have e1 : W32 (jf s 33 M 16 + n) = jf t 47 U 13 + n := by rw [hI.1]; exact W32_in (by omega) (by omega)
  have e2 : W32 (jf t 47 U 13 + n) = jf t 47 U 13 + n := W32_in (by omega) (by omega)
  by_cases a3 : 1000 < jf t 47 U 13 + n
  · simp only [a1, a2, a3, e1, e2, eq_self, and_false, false_and, and_true, true_and, if_true, if_false, reduceIte, Int.reduceEq, Int.reduceLT, Int.reduceLE, Int.reduceNeg, not_false_eq_true, Option.bind_some, jls]; exact jE2_some.mpr (MrQ_same h)
  simp only [a1, a2, a3, e1, e2, eq_self, and_false, false_and, and_true, true_and, if_true, if_false, reduceIte, Int.reduceEq, Int.reduceLT, Int.reduceLE, Int.reduceNeg, not_false_eq_true, Option.bind_some, jls]
  rw [eu_X29_input_28, du_X29_input_28, eu_X43_input_28, du_X43_input_28]
  refine jforWW (J := fun k s' t' => Mr (jp s' 33 M 16 (jf s 33 M 16 + k)) M t' U ∧ jf s' 33 M = jf s 33 M ∧ jf t' 47 U 13 = jf s 33 M 16 + k ∧ jFm s s' M 119 ∧ jFm t t' U 13) (fun k => [M, n, v, k]) (fun k => [U, n, v, k]) 0 n (by omega) ?_ ?_ ⟨?_, rfl, by omega, jFm.rfl, jFm.rfl⟩
  · intro k s' t' k0 k1 ⟨g, g1, g2, f1, f2⟩
    apply Or.inl
    apply jqst2
    case hx =>
      show b_X29_input_28 s' M n v k = _
      unfold b_X29_input_28
      rw [g1, if_pos k1, W32_in (z := 8 * k) (by omega) (by omega), W32_in (z := 56 - 8 * k) (by omega) (by omega), W32_in (z := jf s 33 M 16 + k) (by omega) (by omega), W32_in (z := k + 1) (by omega) (by omega), jst_in (by omega) (by omega)]
      rfl
    case hy =>
      show b_X43_input_28 t' U n v k = _
      unfold b_X43_input_28
      rw [if_pos k1, W32_in (z := 8 * k) (by omega) (by omega), W32_in (z := 56 - 8 * k) (by omega) (by omega), W32_in (z := k + 1) (by omega) (by omega), jst_in (by omega) (by omega)]
      rfl
    refine ⟨?_, ?_, ?_, ?_, ?_⟩
    · obtain ⟨hK, hP, hMem, hMark, hSeg, hReg, hIn, hOut, hHalt, hSc, hRing⟩ := g
      obtain ⟨q1, q2, q3⟩ := byte_pair hv (show 0 ≤ 56 - 8 * k by omega) (show 56 - 8 * k ≤ 63 by omega)
      rw [q1, g2]
      simp only [eq_self, or_true, true_or, or_false, false_or, jfc_jp, jupp_p, jup_a, Int.add_right_inj, Int.add_left_inj, Int.reduceEq, if_true, if_false, true_and, and_true, false_and, and_false, reduceIte] at hMem hMark hSeg hReg hIn hOut hHalt hSc hRing ⊢
      rw [g1] at hIn hSc hRing hHalt
      rw [g2]
      have w1 : W32 (jf s 33 M 16 + k + 1) = jf s 33 M 16 + k + 1 := W32_in (by omega) (by omega)
      have w2 : jf s 33 M 16 + (k + 1) = jf s 33 M 16 + k + 1 := by omega
      rw [w1, w2]
      unfold Mr
      simp only [eq_self, or_true, true_or, or_false, false_or, jfc_jp, jupp_p, jup_a, Int.add_right_inj, Int.add_left_inj, Int.reduceEq, if_true, if_false, true_and, and_true, false_and, and_false, reduceIte]
      rw [g1]
      refine ⟨hK, hP.at (by simp only [eq_self, or_true, true_or, or_false, false_or, jfc_jp, jupp_p, jup_a, Int.add_right_inj, Int.add_left_inj, Int.reduceEq, if_true, if_false, true_and, and_true, false_and, and_false, reduceIte]), hMem, hMark, hSeg, hReg, ?_, hOut, ?_, ?_, ?_⟩
      · unfold MrIn at *
        simp only [eq_self, or_true, true_or, or_false, false_or, jfc_jp, jupp_p, jup_a, Int.add_right_inj, Int.add_left_inj, Int.reduceEq, if_true, if_false, true_and, and_true, false_and, and_false, reduceIte] at hIn ⊢
        refine ⟨by omega, by omega, ?_⟩
        intro j j0 j1
        by_cases e : j = jf s 33 M 16 + k
        · simp only [if_pos e]; exact ⟨q2, q3, True.intro⟩
        · simp only [if_neg e]; exact hIn.2.2.2 j j0 j1
      · unfold MrHalt at *; simp only [eq_self, or_true, true_or, or_false, false_or, jfc_jp, jupp_p, jup_a, Int.add_right_inj, Int.add_left_inj, Int.reduceEq, if_true, if_false, true_and, and_true, false_and, and_false, reduceIte] at hHalt ⊢; exact hHalt
      · unfold MrSc at *; simp only [eq_self, or_true, true_or, or_false, false_or, jfc_jp, jupp_p, jup_a, Int.add_right_inj, Int.add_left_inj, Int.reduceEq, if_true, if_false, true_and, and_true, false_and, and_false, reduceIte] at hSc ⊢; omega
      · unfold MrRing at *; simp only [eq_self, or_true, true_or, or_false, false_or, jfc_jp, jupp_p, jup_a, Int.add_right_inj, Int.add_left_inj, Int.reduceEq, if_true, if_false, true_and, and_true, false_and, and_false, reduceIte] at hRing ⊢
        refine ⟨hRing.1, hRing.2.1, hRing.2.2.1, hRing.2.2.2.1, hRing.2.2.2.2.1, hRing.2.2.2.2.2.1, hRing.2.2.2.2.2.2.1, fun j j0 j1 => ?_⟩
        have q := hRing.2.2.2.2.2.2.2 j j0 j1
        unfold MrRec at *
        rw [g2] at q
        obtain ⟨r1, r2, r3, r4, r5, r6, r7, r8, r9, r10, r11, r12, r13, r14, r15⟩ := q
        exact ⟨r1, r2, r3, r4, r5, r6, r7, r8, r9, r10, r11, r12, by omega, r14, r15⟩
    · simp only [eq_self, or_true, true_or, or_false, false_or, jfc_jp, jupp_p, jup_a, Int.add_right_inj, Int.add_left_inj, Int.reduceEq, if_true, if_false, true_and, and_true, false_and, and_false, reduceIte]; exact g1
    · simp only [eq_self, or_true, true_or, or_false, false_or, jfc_jp, jupp_p, jup_a, Int.add_right_inj, Int.add_left_inj, Int.reduceEq, if_true, if_false, true_and, and_true, false_and, and_false, reduceIte]; rw [g2]; rw [W32_in (by omega) (by omega)]; omega
    · exact f1.jp (by omega) (by omega)
    · exact (f2.jp (by omega) (by omega)).jp (by omega) (by omega)
  · intro s' t' ⟨g, g1, g2, f1, f2⟩
    refine ⟨u_X29_input_64 s' M n, u_X43_input_74 t' U, ?_, ?_, ?_⟩
    · show b_X29_input_28 s' M n v n = _
      unfold b_X29_input_28
      rw [if_neg (by omega)]
    · show b_X43_input_28 t' U n v n = _
      unfold b_X43_input_28
      rw [if_neg (by omega)]
    · simp only [eu_X29_input_64, du_X29_input_64, eu_X43_input_74, du_X43_input_74, em_X29_forget, dm_X29_forget, em_X43_forget, dm_X43_forget, eq_self, and_false, false_and, and_true, true_and, if_true, if_false, reduceIte, Int.reduceEq, Int.reduceLT, Int.reduceLE, Int.reduceNeg, not_false_eq_true, Option.bind_some, jls]
      have w1 : W32 (jf s' 33 M 16 + n) = jf s 33 M 16 + n := by rw [g1]; exact W32_in (by omega) (by omega)
      rw [w1]
      obtain ⟨hK, hP, hMem, hMark, hSeg, hReg, hIn, hOut, hHalt, hSc, hRing⟩ := g
      simp only [eq_self, or_true, true_or, or_false, false_or, jfc_jp, jupp_p, jup_a, Int.add_right_inj, Int.add_left_inj, Int.reduceEq, if_true, if_false, true_and, and_true, false_and, and_false, reduceIte] at hMem hMark hSeg hReg hIn hOut hHalt hSc hRing
      refine jE2_some.mpr ⟨rfl, ?_, ?_, ?_⟩
      · (unfold Mr; simp only [eq_self, or_true, true_or, or_false, false_or, jfc_jp, jupp_p, jup_a, Int.add_right_inj, Int.add_left_inj, Int.reduceEq, if_true, if_false, true_and, and_true, false_and, and_false, reduceIte]; refine ⟨hK, hP.at (by simp only [eq_self, or_true, true_or, or_false, false_or, jfc_jp, jupp_p, jup_a, Int.add_right_inj, Int.add_left_inj, Int.reduceEq, if_true, if_false, true_and, and_true, false_and, and_false, reduceIte]), hMem, hMark, hSeg, hReg, ?_, hOut, ?_, ?_, ?_⟩)
        · unfold MrIn at *; simp only [eq_self, or_true, true_or, or_false, false_or, jfc_jp, jupp_p, jup_a, Int.add_right_inj, Int.add_left_inj, Int.reduceEq, if_true, if_false, true_and, and_true, false_and, and_false, reduceIte] at hIn ⊢; exact hIn
        · unfold MrHalt at *; simp only [eq_self, or_true, true_or, or_false, false_or, jfc_jp, jupp_p, jup_a, Int.add_right_inj, Int.add_left_inj, Int.reduceEq, if_true, if_false, true_and, and_true, false_and, and_false, reduceIte] at hHalt ⊢; exact hHalt
        · unfold MrSc at *; simp only [eq_self, or_true, true_or, or_false, false_or, jfc_jp, jupp_p, jup_a, Int.add_right_inj, Int.add_left_inj, Int.reduceEq, if_true, if_false, true_and, and_true, false_and, and_false, reduceIte] at hSc ⊢; omega
        · exact hRing.zero (by simp only [eq_self, or_true, true_or, or_false, false_or, jfc_jp, jupp_p, jup_a, Int.add_right_inj, Int.add_left_inj, Int.reduceEq, if_true, if_false, true_and, and_true, false_and, and_false, reduceIte]) (by simp only [eq_self, or_true, true_or, or_false, false_or, jfc_jp, jupp_p, jup_a, Int.add_right_inj, Int.add_left_inj, Int.reduceEq, if_true, if_false, true_and, and_true, false_and, and_false, reduceIte]) (by simp only [eq_self, or_true, true_or, or_false, false_or, jfc_jp, jupp_p, jup_a, Int.add_right_inj, Int.add_left_inj, Int.reduceEq, if_true, if_false, true_and, and_true, false_and, and_false, reduceIte]) (by simp only [eq_self, or_true, true_or, or_false, false_or, jfc_jp, jupp_p, jup_a, Int.add_right_inj, Int.add_left_inj, Int.reduceEq, if_true, if_false, true_and, and_true, false_and, and_false, reduceIte])
      · exact (f1.jp (by omega) (by omega)).jp (by omega) (by omega)
      · exact f2.jp (by omega) (by omega)
  · obtain ⟨hK, hP, hMem, hMark, hSeg, hReg, hIn, hOut, hHalt, hSc, hRing⟩ := h
    have w : jf s 33 M 16 + 0 = jf s 33 M 16 := by omega
    rw [w]
    (unfold Mr; simp only [eq_self, or_true, true_or, or_false, false_or, jfc_jp, jupp_p, jup_a, Int.add_right_inj, Int.add_left_inj, Int.reduceEq, if_true, if_false, true_and, and_true, false_and, and_false, reduceIte]; refine ⟨hK, hP.at (by simp only [eq_self, or_true, true_or, or_false, false_or, jfc_jp, jupp_p, jup_a, Int.add_right_inj, Int.add_left_inj, Int.reduceEq, if_true, if_false, true_and, and_true, false_and, and_false, reduceIte]), hMem, hMark, hSeg, hReg, (by unfold MrIn at *; simp only [eq_self, or_true, true_or, or_false, false_or, jfc_jp, jupp_p, jup_a, Int.add_right_inj, Int.add_left_inj, Int.reduceEq, if_true, if_false, true_and, and_true, false_and, and_false, reduceIte]; exact hIn), hOut, (by unfold MrHalt at *; simp only [eq_self, or_true, true_or, or_false, false_or, jfc_jp, jupp_p, jup_a, Int.add_right_inj, Int.add_left_inj, Int.reduceEq, if_true, if_false, true_and, and_true, false_and, and_false, reduceIte]; exact hHalt), (by unfold MrSc at *; simp only [eq_self, or_true, true_or, or_false, false_or, jfc_jp, jupp_p, jup_a, Int.add_right_inj, Int.add_left_inj, Int.reduceEq, if_true, if_false, true_and, and_true, false_and, and_false, reduceIte]; omega), (by unfold MrRing at *; simp only [eq_self, or_true, true_or, or_false, false_or, jfc_jp, jupp_p, jup_a, Int.add_right_inj, Int.add_left_inj, Int.reduceEq, if_true, if_false, true_and, and_true, false_and, and_false, reduceIte]; exact hRing)⟩)
end jMsimple3
section jMsimple4
variable {s t : jS} {M U : Int}
theorem p_haltAt {C : Int} (f g : Int → Int) (hf : jf s 1000 (M + 5) = f) (hg : jf t 1000 (U + 8) = g) (hc : jf s 33 M 19 = jf t 47 U 9) (hC : C = jf t 47 U 9) (h0 : 0 ≤ C) (h1 : C ≤ 8) (he : ∀ k, 0 ≤ k → k < 8 → f k = g k) (a : Int) : jE2 (m_X29_haltAt s M a) (m_X43_haltAt t U a) fun x y => x = y ∧ (x = -1 ∨ 0 ≤ x ∧ x < C) := by
  simp only [em_X29_haltAt, dm_X29_haltAt, em_X43_haltAt, dm_X43_haltAt]
  rw [eu_X29_haltAt_2, du_X29_haltAt_2, eu_X43_haltAt_2, du_X43_haltAt_2]
  refine jforRR (fun k => [M, a, k]) (fun k => [U, a, k]) 0 C h0 ?_ ?_
  · intro k k0 k1
    by_cases e : g k = a
    · refine .inr ⟨some k, some k, ?_, ?_, jE2_some.mpr ⟨rfl, .inr ⟨k0, k1⟩⟩⟩
      · show b_X29_haltAt_2 s M a k = _
        unfold b_X29_haltAt_2
        rw [hc, ← hC, if_pos k1, jlt_in k0 (by omega), hf, Option.bind_some, he k k0 (by omega), if_pos e]
      · show b_X43_haltAt_2 t U a k = _
        unfold b_X43_haltAt_2
        rw [← hC, if_pos k1, jlt_in k0 (by omega), hg, Option.bind_some, if_pos e]
    · refine .inl ⟨?_, ?_⟩
      · show b_X29_haltAt_2 s M a k = _
        unfold b_X29_haltAt_2
        rw [hc, ← hC, if_pos k1, jlt_in k0 (by omega), hf, Option.bind_some, he k k0 (by omega), if_neg e, W32_in (by omega) (by omega)]
      · show b_X43_haltAt_2 t U a k = _
        unfold b_X43_haltAt_2
        rw [← hC, if_pos k1, jlt_in k0 (by omega), hg, Option.bind_some, if_neg e, W32_in (by omega) (by omega)]
  · refine ⟨some (-1), some (-1), ?_, ?_, jE2_some.mpr ⟨rfl, .inl rfl⟩⟩
    · show b_X29_haltAt_2 s M a C = _
      unfold b_X29_haltAt_2
      rw [hc, ← hC, if_neg (by omega)]
    · show b_X43_haltAt_2 t U a C = _
      unfold b_X43_haltAt_2
      rw [← hC, if_neg (by omega)]
theorem p_halt {a v : Int} (h : Mr s M t U) (ha : -2147483648 ≤ a ∧ a ≤ 2147483647) (hv : v = 0 ∨ v = 1) : jE2 (m_X29_halt s M a v) (m_X43_halt t U a v) (MrQ s M t U) := by
  have hh := h
  obtain ⟨hK, hP, hMem, hMark, hSeg, hReg, hIn, hOut, hHalt, hSc, hRing⟩ := hh
  have hH := hHalt
  unfold MrHalt at hH
  obtain ⟨x, y, ex, ey, exy, hx⟩ := jE2_get (p_haltAt (C := jf t 47 U 9) _ _ rfl rfl hH.1 rfl hH.2.1 hH.2.2.1 hH.2.2.2 a)
  subst exy
  rw [em_X29_halt, em_X43_halt]; unfold dm_X29_halt dm_X43_halt
  rw [ex, ey]
  simp only [I_and_1, jdv_in (show ¬ (2 : Int) = 0 by decide), em_X29_halt, dm_X29_halt, eu_X29_halt_98, du_X29_halt_98, eu_X29_halt_46, du_X29_halt_46, eu_X29_halt_28, du_X29_halt_28, em_X43_halt, dm_X43_halt, eu_X43_halt_99, du_X43_halt_99, eu_X43_halt_47, du_X43_halt_47, eu_X43_halt_29, du_X43_halt_29, em_X29_forget, dm_X29_forget, em_X43_forget, dm_X43_forget, eq_self, and_false, false_and, and_true, true_and, if_true, if_false, reduceIte, Int.reduceEq, Int.reduceLT, Int.reduceLE, Int.reduceNeg, not_false_eq_true, Option.bind_some, jls]
  by_cases a1 : a < 0
  · simp only [a1, eq_self, and_false, false_and, and_true, true_and, if_true, if_false, reduceIte, Int.reduceEq, Int.reduceLT, Int.reduceLE, Int.reduceNeg, not_false_eq_true, Option.bind_some, jls]; exact jE2_some.mpr (MrQ_same h)
  have e1 : I_rem a 2 = a % 2 := I_rem_n (by omega) (by omega) (by omega) (by omega)
  rw [e1]
  by_cases a2 : a % 2 = 1
  · simp only [a1, a2, eq_self, and_false, false_and, and_true, true_and, if_true, if_false, reduceIte, Int.reduceEq, Int.reduceLT, Int.reduceLE, Int.reduceNeg, not_false_eq_true, Option.bind_some, jls]; exact jE2_some.mpr (MrQ_same h)
  have a2' : a % 2 = 0 := by omega
  have w1 : W32 (jf t 47 U 9 - 1) = jf t 47 U 9 - 1 := W32_in (by omega) (by omega)
  have w2 : W32 (jf t 47 U 9 + 1) = jf t 47 U 9 + 1 := W32_in (by omega) (by omega)
  by_cases a3 : x = -1
  · rcases hv with rfl | rfl
    · simp only [a1, a2', a3, hH.1, eq_self, and_false, false_and, and_true, true_and, if_true, if_false, reduceIte, Int.reduceEq, Int.reduceLT, Int.reduceLE, Int.reduceNeg, not_false_eq_true, Option.bind_some, jls]; exact jE2_some.mpr (MrQ_same h)
    · by_cases a4 : jf t 47 U 9 = 8
      · simp only [a1, a2', a3, a4, hH.1, eq_self, and_false, false_and, and_true, true_and, if_true, if_false, reduceIte, Int.reduceEq, Int.reduceLT, Int.reduceLE, Int.reduceNeg, not_false_eq_true, Option.bind_some, jls]; exact jE2_some.mpr (MrQ_same h)
      · simp only [a1, a2', a3, a4, hH.1, jst_in hH.2.1 (show jf t 47 U 9 < 8 by omega), eq_self, and_false, false_and, and_true, true_and, if_true, if_false, reduceIte, Int.reduceEq, Int.reduceLT, Int.reduceLE, Int.reduceNeg, not_false_eq_true, Option.bind_some, jls]
        simp only [eq_self, or_true, true_or, or_false, false_or, jfc_jp, jupp_p, jup_a, Int.add_right_inj, Int.add_left_inj, Int.reduceEq, if_true, if_false, true_and, and_true, false_and, and_false, reduceIte]
        simp only [hH.1, w2]
        refine jE2_some.mpr ⟨rfl, ?_, ?_, ?_⟩
        · (unfold Mr; simp only [eq_self, or_true, true_or, or_false, false_or, jfc_jp, jupp_p, jup_a, Int.add_right_inj, Int.add_left_inj, Int.reduceEq, if_true, if_false, true_and, and_true, false_and, and_false, reduceIte]; refine ⟨hK, hP.at (by simp only [eq_self, or_true, true_or, or_false, false_or, jfc_jp, jupp_p, jup_a, Int.add_right_inj, Int.add_left_inj, Int.reduceEq, if_true, if_false, true_and, and_true, false_and, and_false, reduceIte]), hMem, hMark, hSeg, hReg, (by unfold MrIn at *; simp only [eq_self, or_true, true_or, or_false, false_or, jfc_jp, jupp_p, jup_a, Int.add_right_inj, Int.add_left_inj, Int.reduceEq, if_true, if_false, true_and, and_true, false_and, and_false, reduceIte]; exact hIn), hOut, ?_, (by unfold MrSc at *; simp only [eq_self, or_true, true_or, or_false, false_or, jfc_jp, jupp_p, jup_a, Int.add_right_inj, Int.add_left_inj, Int.reduceEq, if_true, if_false, true_and, and_true, false_and, and_false, reduceIte]; omega), (hRing.zero (by simp only [eq_self, or_true, true_or, or_false, false_or, jfc_jp, jupp_p, jup_a, Int.add_right_inj, Int.add_left_inj, Int.reduceEq, if_true, if_false, true_and, and_true, false_and, and_false, reduceIte]) (by simp only [eq_self, or_true, true_or, or_false, false_or, jfc_jp, jupp_p, jup_a, Int.add_right_inj, Int.add_left_inj, Int.reduceEq, if_true, if_false, true_and, and_true, false_and, and_false, reduceIte]) (by simp only [eq_self, or_true, true_or, or_false, false_or, jfc_jp, jupp_p, jup_a, Int.add_right_inj, Int.add_left_inj, Int.reduceEq, if_true, if_false, true_and, and_true, false_and, and_false, reduceIte]) (by simp only [eq_self, or_true, true_or, or_false, false_or, jfc_jp, jupp_p, jup_a, Int.add_right_inj, Int.add_left_inj, Int.reduceEq, if_true, if_false, true_and, and_true, false_and, and_false, reduceIte]))⟩)
          unfold MrHalt; simp only [eq_self, or_true, true_or, or_false, false_or, jfc_jp, jupp_p, jup_a, Int.add_right_inj, Int.add_left_inj, Int.reduceEq, if_true, if_false, true_and, and_true, false_and, and_false, reduceIte]
          refine ⟨by omega, by omega, fun k k0 k1 => ?_⟩
          split
          · rfl
          · exact hH.2.2.2 k k0 k1
        all_goals (repeat' (first | exact jFm.rfl | refine jFm.jp ?_ (by omega) (by omega)))
  · have hx' : 0 ≤ x ∧ x < jf t 47 U 9 := by omega
    rcases hv with rfl | rfl
    · simp only [a1, a2', a3, hH.1, w1, eq_self, and_false, false_and, and_true, true_and, if_true, if_false, reduceIte, Int.reduceEq, Int.reduceLT, Int.reduceLE, Int.reduceNeg, not_false_eq_true, Option.bind_some, jls]
      simp only [eq_self, or_true, true_or, or_false, false_or, jfc_jp, jupp_p, jup_a, Int.add_right_inj, Int.add_left_inj, Int.reduceEq, if_true, if_false, true_and, and_true, false_and, and_false, reduceIte]
      simp only [jlt_in (show 0 ≤ jf t 47 U 9 - 1 by omega) (show jf t 47 U 9 - 1 < 8 by omega), jst_in hx'.1 (show x < 8 by omega), eq_self, and_false, false_and, and_true, true_and, if_true, if_false, reduceIte, Int.reduceEq, Int.reduceLT, Int.reduceLE, Int.reduceNeg, not_false_eq_true, Option.bind_some, jls]
      refine jE2_some.mpr ⟨rfl, ?_, ?_, ?_⟩
      · (unfold Mr; simp only [eq_self, or_true, true_or, or_false, false_or, jfc_jp, jupp_p, jup_a, Int.add_right_inj, Int.add_left_inj, Int.reduceEq, if_true, if_false, true_and, and_true, false_and, and_false, reduceIte]; refine ⟨hK, hP.at (by simp only [eq_self, or_true, true_or, or_false, false_or, jfc_jp, jupp_p, jup_a, Int.add_right_inj, Int.add_left_inj, Int.reduceEq, if_true, if_false, true_and, and_true, false_and, and_false, reduceIte]), hMem, hMark, hSeg, hReg, (by unfold MrIn at *; simp only [eq_self, or_true, true_or, or_false, false_or, jfc_jp, jupp_p, jup_a, Int.add_right_inj, Int.add_left_inj, Int.reduceEq, if_true, if_false, true_and, and_true, false_and, and_false, reduceIte]; exact hIn), hOut, ?_, (by unfold MrSc at *; simp only [eq_self, or_true, true_or, or_false, false_or, jfc_jp, jupp_p, jup_a, Int.add_right_inj, Int.add_left_inj, Int.reduceEq, if_true, if_false, true_and, and_true, false_and, and_false, reduceIte]; omega), (hRing.zero (by simp only [eq_self, or_true, true_or, or_false, false_or, jfc_jp, jupp_p, jup_a, Int.add_right_inj, Int.add_left_inj, Int.reduceEq, if_true, if_false, true_and, and_true, false_and, and_false, reduceIte]) (by simp only [eq_self, or_true, true_or, or_false, false_or, jfc_jp, jupp_p, jup_a, Int.add_right_inj, Int.add_left_inj, Int.reduceEq, if_true, if_false, true_and, and_true, false_and, and_false, reduceIte]) (by simp only [eq_self, or_true, true_or, or_false, false_or, jfc_jp, jupp_p, jup_a, Int.add_right_inj, Int.add_left_inj, Int.reduceEq, if_true, if_false, true_and, and_true, false_and, and_false, reduceIte]) (by simp only [eq_self, or_true, true_or, or_false, false_or, jfc_jp, jupp_p, jup_a, Int.add_right_inj, Int.add_left_inj, Int.reduceEq, if_true, if_false, true_and, and_true, false_and, and_false, reduceIte]))⟩)
        unfold MrHalt; simp only [eq_self, or_true, true_or, or_false, false_or, jfc_jp, jupp_p, jup_a, Int.add_right_inj, Int.add_left_inj, Int.reduceEq, if_true, if_false, true_and, and_true, false_and, and_false, reduceIte]
        refine ⟨by omega, by omega, fun k k0 k1 => ?_⟩
        split
        · exact hH.2.2.2 _ (by omega) (by omega)
        · exact hH.2.2.2 k k0 k1
      all_goals (repeat' (first | exact jFm.rfl | refine jFm.jp ?_ (by omega) (by omega)))
    · simp only [a1, a2', a3, eq_self, and_false, false_and, and_true, true_and, if_true, if_false, reduceIte, Int.reduceEq, Int.reduceLT, Int.reduceLE, Int.reduceNeg, not_false_eq_true, Option.bind_some, jls]; exact jE2_some.mpr (MrQ_same h)
/-- the rights of an address -/
theorem s_X31_has (s : jS) (x a : Int) (hf : 0 ≤ jf s 35 x 0 ∧ jf s 35 x 0 ≤ 131072) (ha : 0 ≤ a ∧ a < 131072) : m_X31_has s x a = some (if jf s 35 x 0 ≤ a ∧ a < jf s 35 x 0 + jf s 35 x 1 then 1 else 0) := by
  rw [em_X31_has]; unfold dm_X31_has
  rw [W32_in (by omega) (by omega), Wz_0, Wz_1]
  by_cases c : a < jf s 35 x 0
  · rw [if_pos c, if_neg (by omega)]
  · rw [if_neg c]
    by_cases d : a - jf s 35 x 0 < jf s 35 x 1
    · rw [if_pos d, if_pos (by omega)]
    · rw [if_neg d, if_neg (by omega)]
theorem p_rightsOf {a b : Int} (h : MrSeg M (jf s 35) (jf t 1000 (U + 5)) (jf t 1000 (U + 6)) (jf t 1000 (U + 7))) (hab : 0 ≤ a ∧ a < 131072 ∧ b = a ∨ ¬ (0 ≤ a ∧ a < 131072) ∧ ¬ (0 ≤ b ∧ b < 131072)) : jE2 (m_X29_rightsOf s M a) (m_X43_rightsOf t U b) fun x y => x = y ∧ 0 ≤ x ∧ x ≤ 7 ∧ (¬ x = 0 → 0 ≤ a ∧ a < 131072) := by
  rw [em_X29_rightsOf, em_X43_rightsOf]; unfold dm_X29_rightsOf dm_X43_rightsOf
  simp only [s_X29_beyond, L_cmp_lt, eq_self, and_false, false_and, and_true, true_and, if_true, if_false, reduceIte, Int.reduceEq, Int.reduceLT, Int.reduceLE, Int.reduceNeg, not_false_eq_true, Option.bind_some, jls]
  rcases hab with ⟨a0, a1, rfl⟩ | ⟨a0, b0⟩
  · have b0 : ¬ b < 0 := by omega
    have a2 : 0 ≤ b ∧ b < 131072 := ⟨a0, a1⟩
    simp only [a1, a2, b0, and_self, eq_self, and_false, false_and, and_true, true_and, if_true, if_false, reduceIte, Int.reduceEq, Int.reduceLT, Int.reduceLE, Int.reduceNeg, not_false_eq_true, Option.bind_some, jls]
    rw [eu_X29_rightsOf_11, du_X29_rightsOf_11, eu_X43_rightsOf_18, du_X43_rightsOf_18]
    refine jforRR (fun k => [M, b, k]) (fun k => [U, b, k]) 0 8 (by omega) ?_ ?_
    · intro k k0 k1
      obtain ⟨q1, q2, q3, q4, q5, q6, q7, q8, q9⟩ := h k k0 k1
      have e : M + 3 + 7 + 1 * k = M + 10 + k := by omega
      have w : W32 (jf t 1000 (U + 5) k + jf t 1000 (U + 6) k) = jf t 1000 (U + 5) k + jf t 1000 (U + 6) k := W32_in (by omega) (by omega)
      by_cases c : jf t 1000 (U + 5) k ≤ b ∧ b < jf t 1000 (U + 5) k + jf t 1000 (U + 6) k
      · have q9' : jf s 35 (M + 10 + k) 0 = jf t 1000 (U + 5) k ∧ jf s 35 (M + 10 + k) 2 = jf t 1000 (U + 7) k := by
          rcases q9 with q9 | q9
          · omega
          · exact q9
        refine .inr ⟨u_X29_rightsOf_30 s M k, u_X43_rightsOf_55 t U k, ?_, ?_, ?_⟩
        · show b_X29_rightsOf_11 s M b k = _
          unfold b_X29_rightsOf_11
          rw [if_pos k1, e, jix_in k0 k1, Option.bind_some, s_X31_has s _ b ⟨q6, q7⟩ a2, q9'.1, q8, if_pos c, Option.bind_some, if_neg (by decide)]
        · show b_X43_rightsOf_18 t U b k = _
          unfold b_X43_rightsOf_18
          rw [if_pos k1, jlt_in k0 k1, Option.bind_some, if_neg (by rw [L_cmp_lt]; omega), jlt_in k0 k1, Option.bind_some, Option.bind_some, w, if_pos (by rw [L_cmp_lt]; omega)]
        · simp only [eu_X29_rightsOf_30, du_X29_rightsOf_30, eu_X43_rightsOf_55, du_X43_rightsOf_55, jix_in k0 k1, jlt_in k0 k1, e, eq_self, and_false, false_and, and_true, true_and, if_true, if_false, reduceIte, Int.reduceEq, Int.reduceLT, Int.reduceLE, Int.reduceNeg, not_false_eq_true, Option.bind_some, jls]
          exact jE2_some.mpr ⟨q9'.2, by omega, by omega, fun _ => by first | trivial | exact a2⟩
      · refine .inl ⟨?_, ?_⟩
        · show b_X29_rightsOf_11 s M b k = _
          unfold b_X29_rightsOf_11
          rw [if_pos k1, e, jix_in k0 k1, Option.bind_some, s_X31_has s _ b ⟨q6, q7⟩ a2, q8, if_neg (by omega), Option.bind_some, if_pos rfl, W32_in (by omega) (by omega)]
        · show b_X43_rightsOf_18 t U b k = _
          unfold b_X43_rightsOf_18
          simp only [eu_X43_rightsOf_62, du_X43_rightsOf_62]
          rw [if_pos k1, jlt_in k0 k1, Option.bind_some, W32_in (z := k + 1) (by omega) (by omega)]
          by_cases d : b < jf t 1000 (U + 5) k
          · rw [if_pos (by rw [L_cmp_lt]; exact d)]
          · rw [if_neg (by rw [L_cmp_lt]; exact d), jlt_in k0 k1, Option.bind_some, Option.bind_some, w, if_neg (by rw [L_cmp_lt]; omega)]
    · refine ⟨some 0, some 0, ?_, ?_, jE2_some.mpr ⟨rfl, by omega, by omega, fun q => absurd rfl q⟩⟩
      · show b_X29_rightsOf_11 s M b 8 = _
        unfold b_X29_rightsOf_11
        rw [if_neg (by omega)]
      · show b_X43_rightsOf_18 t U b 8 = _
        unfold b_X43_rightsOf_18
        rw [if_neg (by omega)]
  · simp only [a0, eq_self, and_false, false_and, and_true, true_and, if_true, if_false, reduceIte, Int.reduceEq, Int.reduceLT, Int.reduceLE, Int.reduceNeg, not_false_eq_true, Option.bind_some, jls]
    by_cases c : b < 0
    · simp only [c, eq_self, and_false, false_and, and_true, true_and, if_true, if_false, reduceIte, Int.reduceEq, Int.reduceLT, Int.reduceLE, Int.reduceNeg, not_false_eq_true, Option.bind_some, jls]; exact jE2_some.mpr ⟨rfl, by omega, by omega, fun q => absurd rfl q⟩
    · have d : ¬ b < 131072 := by omega
      simp only [c, d, eq_self, and_false, false_and, and_true, true_and, if_true, if_false, reduceIte, Int.reduceEq, Int.reduceLT, Int.reduceLE, Int.reduceNeg, not_false_eq_true, Option.bind_some, jls]; exact jE2_some.mpr ⟨rfl, by omega, by omega, fun q => absurd rfl q⟩
theorem p_isMarked {a b : Int} (h : MrMark (jf s 1002 (M + 2)) (jf t 1002 (U + 4))) (hev : a % 2 = 0) (hab : 0 ≤ a ∧ a < 131072 ∧ b = a ∨ ¬ (0 ≤ a ∧ a < 131072) ∧ ¬ (0 ≤ b ∧ b < 131072)) : jE2 (m_X29_isMarked s M a) (m_X43_isMarked t U b) fun x y => x = y ∧ (x = 0 ∨ x = 1) := by
  rw [em_X29_isMarked, em_X43_isMarked]; unfold dm_X29_isMarked dm_X43_isMarked
  simp only [s_X29_beyond, L_cmp_lt, L_cmp_0, Wz_0, Wz_1, jdv_in (show ¬ (2 : Int) = 0 by decide), eq_self, and_false, false_and, and_true, true_and, if_true, if_false, reduceIte, Int.reduceEq, Int.reduceLT, Int.reduceLE, Int.reduceNeg, not_false_eq_true, Option.bind_some, jls]
  rcases hab with ⟨a0, a1, rfl⟩ | ⟨a0, b0⟩
  · have b0 : ¬ b < 0 := by omega
    have a2 : 0 ≤ b ∧ b < 131072 := ⟨a0, a1⟩
    have e1 : L_rem b 2 = b % 2 := L_rem_n (by omega) (by omega) (by omega) (by omega)
    have e2 : I_div b 2 = b / 2 := I_div_n (by omega) (by omega) (by omega) (by omega)
    have e3 : I_shr b 1 = b / 2 := i_shr_p (by omega) (by omega) (by omega)
    have e4 : L2i b = b := l2i_in (by omega) (by omega)
    have q := h (b / 2) (by omega) (by omega)
    simp only [a1, a2, b0, and_self, e1, e2, e3, e4, hev, jlt_in (show 0 ≤ b / 2 by omega) (show b / 2 < 65536 by omega), q, eq_self, and_false, false_and, and_true, true_and, if_true, if_false, reduceIte, Int.reduceEq, Int.reduceLT, Int.reduceLE, Int.reduceNeg, not_false_eq_true, Option.bind_some, jls]
    refine jE2_ite Iff.rfl (fun _ => jE2_some.mpr ⟨rfl, .inl rfl⟩) (fun _ => jE2_some.mpr ⟨rfl, .inr rfl⟩)
  · simp only [a0, eq_self, and_false, false_and, and_true, true_and, if_true, if_false, reduceIte, Int.reduceEq, Int.reduceLT, Int.reduceLE, Int.reduceNeg, not_false_eq_true, Option.bind_some, jls]
    by_cases c : b < 0
    · simp only [c, eq_self, and_false, false_and, and_true, true_and, if_true, if_false, reduceIte, Int.reduceEq, Int.reduceLT, Int.reduceLE, Int.reduceNeg, not_false_eq_true, Option.bind_some, jls]; exact jE2_some.mpr ⟨rfl, .inl rfl⟩
    · have d : ¬ b < 131072 := by omega
      simp only [c, d, eq_self, and_false, false_and, and_true, true_and, if_true, if_false, reduceIte, Int.reduceEq, Int.reduceLT, Int.reduceLE, Int.reduceNeg, not_false_eq_true, Option.bind_some, jls]; exact jE2_some.mpr ⟨rfl, .inl rfl⟩
theorem p_rights {a : Int} (h : Mr s M t U) (ha : -2147483648 ≤ a ∧ a ≤ 2147483647) : jE2 (m_X29_rights s M a) (m_X43_rights t U a) fun a b => a = b := by
  obtain ⟨hK, hP, hMem, hMark, hSeg, hReg, hIn, hOut, hHalt, hSc, hRing⟩ := h
  rw [em_X29_rights, em_X43_rights]; unfold dm_X29_rights dm_X43_rights
  have hab : 0 ≤ a ∧ a < 131072 ∧ a = a ∨ ¬ (0 ≤ a ∧ a < 131072) ∧ ¬ (0 ≤ a ∧ a < 131072) := by omega
  refine jE2_call (p_rightsOf hSeg hab) fun x y ⟨e, x0, x1, x2⟩ => ?_
  subst e
  simp only [em_X29_rights, dm_X29_rights, eu_X29_rights_25, du_X29_rights_25, eu_X29_rights_24, du_X29_rights_24, em_X43_rights, dm_X43_rights, eu_X43_rights_21, du_X43_rights_21, I_and_1]
  by_cases c : a % 2 = 0
  · simp only [c, eq_self, and_false, false_and, and_true, true_and, if_true, if_false, reduceIte, Int.reduceEq, Int.reduceLT, Int.reduceLE, Int.reduceNeg, not_false_eq_true, Option.bind_some, jls]
    refine jE2_call (p_isMarked hMark c hab) fun z y ⟨e, _⟩ => ?_
    subst e
    exact jE2_ite Iff.rfl (fun _ => jE2_some.mpr rfl) (fun _ => jE2_some.mpr rfl)
  · simp only [c, eq_self, and_false, false_and, and_true, true_and, if_true, if_false, reduceIte, Int.reduceEq, Int.reduceLT, Int.reduceLE, Int.reduceNeg, not_false_eq_true, Option.bind_some, jls]
    refine jE2_R.mpr ?_
    rw [em_X43_isMarked]; unfold dm_X43_isMarked
    simp only [L_cmp_lt, L_cmp_0, Wz_0, Wz_1, jdv_in (show ¬ (2 : Int) = 0 by decide), eq_self, and_false, false_and, and_true, true_and, if_true, if_false, reduceIte, Int.reduceEq, Int.reduceLT, Int.reduceLE, Int.reduceNeg, not_false_eq_true, Option.bind_some, jls]
    by_cases c1 : a < 0
    · simp only [c1, eq_self, and_false, false_and, and_true, true_and, if_true, if_false, reduceIte, Int.reduceEq, Int.reduceLT, Int.reduceLE, Int.reduceNeg, not_false_eq_true, Option.bind_some, jls]; exact jE_some.mpr (by simp only [eq_self, and_false, false_and, and_true, true_and, if_true, if_false, reduceIte, Int.reduceEq, Int.reduceLT, Int.reduceLE, Int.reduceNeg, not_false_eq_true, Option.bind_some, jls]; exact jE2_some.mpr rfl)
    · by_cases c2 : a < 131072
      · have e1 : L_rem a 2 = a % 2 := L_rem_n (by omega) (by omega) (by omega) (by omega)
        simp only [c1, c2, c, e1, eq_self, and_false, false_and, and_true, true_and, if_true, if_false, reduceIte, Int.reduceEq, Int.reduceLT, Int.reduceLE, Int.reduceNeg, not_false_eq_true, Option.bind_some, jls]; exact jE_some.mpr (by simp only [eq_self, and_false, false_and, and_true, true_and, if_true, if_false, reduceIte, Int.reduceEq, Int.reduceLT, Int.reduceLE, Int.reduceNeg, not_false_eq_true, Option.bind_some, jls]; exact jE2_some.mpr rfl)
      · simp only [c1, c2, eq_self, and_false, false_and, and_true, true_and, if_true, if_false, reduceIte, Int.reduceEq, Int.reduceLT, Int.reduceLE, Int.reduceNeg, not_false_eq_true, Option.bind_some, jls]; exact jE_some.mpr (by simp only [eq_self, and_false, false_and, and_true, true_and, if_true, if_false, reduceIte, Int.reduceEq, Int.reduceLT, Int.reduceLE, Int.reduceNeg, not_false_eq_true, Option.bind_some, jls]; exact jE2_some.mpr rfl)
end jMsimple4
