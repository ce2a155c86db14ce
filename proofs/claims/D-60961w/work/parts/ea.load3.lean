/-! an image is loaded: marks, registers; the whole -/
section jLoad3
variable {s t u w r q : jS} {C T M U O X n x k a v b c e0 : Int} {i : Int → Int → Int → Int}
/-- the end of loading -/
theorem ld_end (hC : LdC s C t T i) (h : LdI s t C T i 3 u w) (he : i 2 0 0 % 2 = 0) : jE2 (u_X1_load_293 u C) (u_X37_load_276 w T) fun r q => r.2 = 0 ∧ q.2 = 0 ∧ Mr r.1 (C + 4029) q.1 (T + 130) ∧ jFx s r.1 (C + 4029) 119 ∧ jFm t q.1 (T + 130) 13 := by
  obtain ⟨hT, hI, hJ, vi, gi⟩ := hC.kp h.2.1 h.2.2.1
  have hent := jin_p.mp vi.2.1
  obtain ⟨hM, hF, hF', hR, hR'⟩ := h
  obtain ⟨hK, hP, hMem, hMark, hSeg, hIn, hOut, hHalt, hSc, hRing, hd23⟩ := hM
  rw [eu_X1_load_293, eu_X37_load_276]; unfold du_X1_load_293 du_X37_load_276
  rw [em_X29_marking, em_X43_marking]; unfold dm_X29_marking dm_X43_marking
  rw [jzb_in (.inr rfl), Option.bind_some, Option.bind_some]
  simp only [em_X29_forget, dm_X29_forget, em_X43_forget, dm_X43_forget, jls, Option.bind_some, c_set2]
  have I1 : cIm (jp (jp (jp (jp u 33 (C + 4029) 9 1) 33 (C + 4029) 21 0) 1000 (C + 4029 + 4) 2 131056) 33 (C + 4029) 21 0) (C + 3992 + 10) i := hI.keep fun c a k a0 a1 => by (repeat (first | rw [jf_neg (by omega)] | rw [jf_pos (by omega)] | rw [ou_neg (by omega)] | rw [ou_pos (by omega)]))
  have J1 : tIm (jp (jp w 47 (T + 130) 7 1) 47 (T + 130) 23 0) (T + 118) 1 i := hJ.kf fun c a k a0 a1 => by (repeat (first | rw [jf_neg (by omega)] | rw [jf_pos (by omega)] | rw [ou_neg (by omega)] | rw [ou_pos (by omega)]))
  have J2 : tIm (jp (jp (jp (jp w 47 (T + 130) 7 1) 47 (T + 130) 23 0) 47 (T + 130) 11 (i 2 0 0)) 1000 (T + 130 + 9) 2 131056) (T + 118) 1 i := hJ.kf fun c a k a0 a1 => by (repeat (first | rw [jf_neg (by omega)] | rw [jf_pos (by omega)] | rw [ou_neg (by omega)] | rw [ou_pos (by omega)]))
  rw [x_told I1, s_told J1, Option.bind_some, Option.bind_some, c_set32 he, Option.bind_some, jst_in (by decide) (by decide), Option.bind_some, s_qAb J2, Option.bind_some]
  have q0 : qAb i 2 0 = if i 1 2 0 = 0 then 0 else 1 := by unfold qAb; rw [if_pos (by decide), if_pos rfl]
  have rv : ∃ v3, v3 = (if ¬ i 1 2 0 = 0 then i 1 2 1 + 2048 else 0) ∧ (if qAb i 2 0 = 1 then (m_X42_about (jp (jp (jp (jp w 47 (T + 130) 7 1) 47 (T + 130) 23 0) 47 (T + 130) 11 (i 2 0 0)) 1000 (T + 130 + 9) 2 131056) (T + 118) 2 1).bind fun v6 => u_X37_load_349 (jp (jp (jp (jp w 47 (T + 130) 7 1) 47 (T + 130) 23 0) 47 (T + 130) 11 (i 2 0 0)) 1000 (T + 130 + 9) 2 131056) (W32 (v6 + 2048)) 3 (T + 130 + 9) else u_X37_load_349 (jp (jp (jp (jp w 47 (T + 130) 7 1) 47 (T + 130) 23 0) 47 (T + 130) 11 (i 2 0 0)) 1000 (T + 130 + 9) 2 131056) 0 3 (T + 130 + 9)) = some (jp (jp (jp (jp (jp w 47 (T + 130) 7 1) 47 (T + 130) 23 0) 47 (T + 130) 11 (i 2 0 0)) 1000 (T + 130 + 9) 2 131056) 1000 (T + 130 + 9) 3 v3, 0) ∧ 0 ≤ v3 ∧ v3 ≤ 200000 := by
    have e349 : ∀ w v, u_X37_load_349 w v 3 (T + 130 + 9) = some (jp w 1000 (T + 130 + 9) 3 v, 0) := fun w v => by
      rw [eu_X37_load_349]; unfold du_X37_load_349
      rw [jst_in (by decide) (by decide), Option.bind_some]
    rw [q0, s_qAb J2, Option.bind_some]
    by_cases c : i 1 2 0 = 0
    · rw [if_pos c, if_neg (show ¬ (0 : Int) = 1 by decide), e349]
      exact ⟨0, by rw [if_neg (fun z => z c)], rfl, by omega, by omega⟩
    · have vv := (vi.1 2 (by omega) (by omega)).2 c
      have q1 : qAb i 2 1 = i 1 2 1 := by unfold qAb; rw [if_pos (by decide), if_neg (by decide), if_neg c, if_pos (by decide)]
      rw [if_neg c, if_pos rfl, q1, W32_in (by omega) (by omega), e349]
      exact ⟨_, by rw [if_pos c], rfl, by omega, by omega⟩
  obtain ⟨v3, hv3, ev3, v30, v31⟩ := rv
  rw [ev3]
  refine jE2_some.mpr ⟨rfl, rfl, ?_, ?_, ?_⟩
  · unfold Mr
    simp only [eq_self, or_true, true_or, or_false, false_or, jfc_jp, jupp_p, jup_a, Int.add_right_inj, Int.add_left_inj, Int.reduceEq, if_true, if_false, true_and, and_true, false_and, and_false, reduceIte]
    refine ⟨hK, hP.at (by simp only [eq_self, or_true, true_or, or_false, false_or, jfc_jp, jupp_p, jup_a, Int.add_right_inj, Int.add_left_inj, Int.reduceEq, if_true, if_false, true_and, and_true, false_and, and_false, reduceIte]), hMem, hMark, hSeg, ⟨fun k k0 k1 => ?_, ?_⟩, (by unfold MrIn at *; simp only [eq_self, or_true, true_or, or_false, false_or, jfc_jp, jupp_p, jup_a, Int.add_right_inj, Int.add_left_inj, Int.reduceEq, if_true, if_false, true_and, and_true, false_and, and_false, reduceIte]; exact hIn), hOut, (by unfold MrHalt at *; simp only [eq_self, or_true, true_or, or_false, false_or, jfc_jp, jupp_p, jup_a, Int.add_right_inj, Int.add_left_inj, Int.reduceEq, if_true, if_false, true_and, and_true, false_and, and_false, reduceIte]; exact hHalt), ?_, hRing.zero (by simp only [eq_self, or_true, true_or, or_false, false_or, jfc_jp, jupp_p, jup_a, Int.add_right_inj, Int.add_left_inj, Int.reduceEq, if_true, if_false, true_and, and_true, false_and, and_false, reduceIte]) (by simp only [eq_self, or_true, true_or, or_false, false_or, jfc_jp, jupp_p, jup_a, Int.add_right_inj, Int.add_left_inj, Int.reduceEq, if_true, if_false, true_and, and_true, false_and, and_false, reduceIte]) (by simp only [eq_self, or_true, true_or, or_false, false_or, jfc_jp, jupp_p, jup_a, Int.add_right_inj, Int.add_left_inj, Int.reduceEq, if_true, if_false, true_and, and_true, false_and, and_false, reduceIte]) (by simp only [eq_self, or_true, true_or, or_false, false_or, jfc_jp, jupp_p, jup_a, Int.add_right_inj, Int.add_left_inj, Int.reduceEq, if_true, if_false, true_and, and_true, false_and, and_false, reduceIte])⟩
    · have h1 := hR k k0 k1
      have h2 := hR' k k0 k1
      simp only [jup_a]
      by_cases c3 : k = 3
      · subst c3
        rw [if_neg (by omega), h1, if_pos rfl, hv3]
        by_cases c : i 1 2 0 = 0
        · rw [if_neg (fun z => z.2.2 c), if_neg (fun z => z c)]; omega
        · rw [if_pos (⟨rfl, by omega, c⟩), if_pos c]
          rw [hv3, if_pos c] at v30 v31
          omega
      · by_cases c2 : k = 2
        · subst c2; rw [if_pos rfl, if_neg c3, if_pos rfl]; omega
        · rw [if_neg c2, if_neg c3, if_neg c2, h1, h2, if_neg (fun z => c3 z.1)]; omega
    · have h2 := hR' 0 (by omega) (by omega)
      simp only [jup_a]
      rw [if_neg (by omega), if_neg (by omega), h2]
    · unfold Lsc at hSc
      unfold MrSc
      simp only [eq_self, or_true, true_or, or_false, false_or, jfc_jp, jupp_p, jup_a, Int.add_right_inj, Int.add_left_inj, Int.reduceEq, if_true, if_false, true_and, and_true, false_and, and_false, reduceIte]
      omega
  · exact hF.trans ((((((jFx.rfl.jp rfl (by omega) (by omega)).jp rfl (by omega) (by omega)).jp rfl (by omega) (by omega)).jp rfl (by omega) (by omega)).jp rfl (by omega) (by omega)).jp rfl (by omega) (by omega))
  · exact hF'.trans (by (repeat' (first | exact jFm.rfl | refine jFm.jp ?_ (by omega) (by omega))))
/-- marks, then the end -/
theorem ld_marks (hC : LdC s C t T i) (h : LdI s t C T i 3 u w) (he : i 2 0 0 % 2 = 0) : jE2 (u_X1_load_230 u C) (u_X37_load_226 w T) fun r q => r.2 = 0 ∧ q.2 = 0 ∧ Mr r.1 (C + 4029) q.1 (T + 130) ∧ jFx s r.1 (C + 4029) 119 ∧ jFm t q.1 (T + 130) 13 := by
  obtain ⟨hT, hI, hJ, vi, gi⟩ := hC.kp h.2.1 h.2.2.1
  have vv := (vi.1 0 (by omega) (by omega)).2 gi.1
  have ge : i 1 0 1 + i 1 0 2 + i 1 0 3 ≤ 131072 := gi.2.1 0 (by omega) (by omega) gi.1
  have hm := gi.2.2.1
  unfold isMk at hm
  have ev : i 1 0 1 % 2 = 0 := by omega
  have sz := gi.2.2.2.2
  have qn : ∀ j, 1 ≤ j → j ≤ 3 → qAb i 0 j = i 1 0 j := fun j j0 j1 => by
    unfold qAb; rw [if_pos (by decide), if_neg (by omega), if_neg gi.1, if_pos ⟨j0, j1⟩]
  rw [eu_X1_load_230, eu_X37_load_226]; unfold du_X1_load_230 du_X37_load_226
  rw [i_qAb hI, s_qAb hJ, Option.bind_some, Option.bind_some, qn 1 (by omega) (by omega), eu_X1_load_244, eu_X37_load_238]; unfold du_X1_load_244 du_X37_load_238
  obtain ⟨u2, w2, f1, f2, f3⟩ := jstep2 (A := jc3 b_X1_load_244) (B := jc3 b_X37_load_238) (fun _ u w => LdI s t C T i 3 u w) (fun k => [C, i 1 0 1, 2 * k]) (fun k => [T, i 1 0 1, 2 * k]) 0 (i 1 0 2 / 2) (by omega) h (fun k u w k0 k1 h => by
    obtain ⟨hT, hI, hJ, vi, gi⟩ := hC.kp h.2.1 h.2.2.1
    obtain ⟨y, ey, hy⟩ := i_qMk (a := i 1 0 1 + 2 * k) hT hI vi gi (by unfold jin; omega)
    obtain ⟨z, ez, hz⟩ := s_qMk (a := i 1 0 1 + 2 * k) hJ vi gi (by unfold jin; omega)
    have e287 : ∀ u, u_X1_load_287 u C (i 1 0 1) (2 * k) = some (.inl (u, [C, i 1 0 1, 2 * (k + 1)])) := fun u => by
      rw [eu_X1_load_287]; unfold du_X1_load_287; rw [W32_in (by omega) (by omega), show 2 * k + 2 = 2 * (k + 1) by omega]
    have e270 : ∀ w, u_X37_load_270 w T (i 1 0 1) (2 * k) = some (.inl (w, [T, i 1 0 1, 2 * (k + 1)])) := fun w => by
      rw [eu_X37_load_270]; unfold du_X37_load_270; rw [W32_in (by omega) (by omega), show 2 * k + 2 = 2 * (k + 1) by omega]
    show ∃ u' w', b_X1_load_244 u C (i 1 0 1) (2 * k) = _ ∧ b_X37_load_238 w T (i 1 0 1) (2 * k) = _ ∧ _
    unfold b_X1_load_244 b_X37_load_238
    rw [i_qAb hI, Option.bind_some, qn 2 (by omega) (by omega), if_pos (show 2 * k < i 1 0 2 by omega), if_pos (show 2 * k < 4096 by omega), W32_in (z := i 1 0 1 + 2 * k) (by omega) (by omega), ey, ez, Option.bind_some, Option.bind_some]
    by_cases c : isMk i (i 1 0 1 + 2 * k)
    · obtain ⟨p, ep, q, eq, hq⟩ := ml_mark (a := i 1 0 1 + 2 * k) h.1 (by omega) (by omega) (by omega)
      rw [if_pos (hy.mpr c), if_pos (hz.mpr c), ep, eq, Option.bind_some, Option.bind_some, e287, e270]
      exact ⟨_, _, rfl, rfl, h.stp hq⟩
    · rw [if_neg (fun z => c (hy.mp z)), if_neg (fun z' => c (hz.mp z')), e287, e270]
      exact ⟨_, _, rfl, rfl, h⟩)
  rw [show (2 : Int) * 0 = 0 by rfl] at f1 f2
  rw [f1, f2]
  obtain ⟨hT, hI, hJ, vi, gi⟩ := hC.kp f3.2.1 f3.2.2.1
  rw [jlpW_r (r := u_X1_load_293 u2 C) (by
    show b_X1_load_244 u2 C (i 1 0 1) (2 * (i 1 0 2 / 2)) = _
    unfold b_X1_load_244
    rw [i_qAb hI, Option.bind_some, qn 2 (by omega) (by omega), if_neg (by omega)])]
  rw [jstep1 (A := jc3 b_X37_load_238) (s := w2) (fun k => [T, i 1 0 1, 2 * k]) (i 1 0 2 / 2) 2048 (by omega) (fun k k0 k1 => by
    obtain ⟨z, ez, hz⟩ := s_qMk (a := i 1 0 1 + 2 * k) hJ vi gi (by unfold jin; omega)
    show b_X37_load_238 w2 T (i 1 0 1) (2 * k) = _
    unfold b_X37_load_238
    have nz : ¬ isMk i (i 1 0 1 + 2 * k) := fun z => by have := z.2.1; omega
    rw [if_pos (by omega), W32_in (by omega) (by omega), ez, Option.bind_some, if_neg (fun z' => nz (hz.mp z')), eu_X37_load_270]
    unfold du_X37_load_270
    rw [W32_in (by omega) (by omega), show 2 * k + 2 = 2 * (k + 1) by omega])]
  rw [jlpW_r (r := u_X37_load_276 w2 T) (by
    show b_X37_load_238 w2 T (i 1 0 1) (2 * 2048) = _
    unfold b_X37_load_238
    rw [if_neg (by omega)])]
  exact ld_end hC f3 he
theorem ld_all (hC : LdC s C t T i) (h : LdI s t C T i 0 u w) (he : i 2 0 0 % 2 = 0) : jE2 (u_X1_load_58 u C 0) (u_X37_load_100 w T 0) fun r q => r.2 = 0 ∧ q.2 = 0 ∧ Mr r.1 (C + 4029) q.1 (T + 130) ∧ jFx s r.1 (C + 4029) 119 ∧ jFm t q.1 (T + 130) 13 := by
  rw [eu_X1_load_58, eu_X37_load_100]; unfold du_X1_load_58 du_X37_load_100
  obtain ⟨u1, w1, a1, b1, h1⟩ := ld_seg hC h (by omega) (by omega)
  obtain ⟨u2, w2, a2, b2, h2⟩ := ld_seg hC h1 (by omega) (by omega)
  obtain ⟨u3, w3, a3, b3, h3⟩ := ld_seg hC h2 (by omega) (by omega)
  rw [show jlpW (jc2 b_X1_load_58) [C, 0] u = jlpW (jc2 b_X1_load_58) [C, 0 + 1] u1 from jlpW_l a1, show jlpW (jc2 b_X1_load_58) [C, 0 + 1] u1 = jlpW (jc2 b_X1_load_58) [C, 0 + 1 + 1] u2 from jlpW_l a2, show jlpW (jc2 b_X1_load_58) [C, 0 + 1 + 1] u2 = jlpW (jc2 b_X1_load_58) [C, 0 + 1 + 1 + 1] u3 from jlpW_l a3]
  rw [show jlpW (jc2 b_X37_load_100) [T, 0] w = jlpW (jc2 b_X37_load_100) [T, 0 + 1] w1 from jlpW_l b1, show jlpW (jc2 b_X37_load_100) [T, 0 + 1] w1 = jlpW (jc2 b_X37_load_100) [T, 0 + 1 + 1] w2 from jlpW_l b2, show jlpW (jc2 b_X37_load_100) [T, 0 + 1 + 1] w2 = jlpW (jc2 b_X37_load_100) [T, 0 + 1 + 1 + 1] w3 from jlpW_l b3]
  rw [show jlpW (jc2 b_X1_load_58) [C, 0 + 1 + 1 + 1] u3 = u_X1_load_230 u3 C from jlpW_r (by show b_X1_load_58 u3 C (0 + 1 + 1 + 1) = _; unfold b_X1_load_58; rw [if_neg (by decide)]), show jlpW (jc2 b_X37_load_100) [T, 0 + 1 + 1 + 1] w3 = u_X37_load_226 w3 T from jlpW_r (by show b_X37_load_100 w3 T (0 + 1 + 1 + 1) = _; unfold b_X37_load_100; rw [if_neg (by decide)])]
  exact ld_marks hC h3 he
end jLoad3
