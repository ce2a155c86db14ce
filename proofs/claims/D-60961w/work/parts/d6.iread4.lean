/-! the component reads a file of an image: what must be of the segments -/
section jIread4
variable {s t u w : jS} {B N R n p f a b x y e k z v d lo m : Int} {g g' : Int → Int} {i j : Int → Int → Int → Int} {L : List (Prop × Int × Int)} {c : Prop}
theorem T48 (h : jTt s 48 R) : jTt s 43 (R + 1) ∧ jTt s 47 (R + 10) ∧ jK s (R + 11) = 1000 := by
  have f0 := h.fld (k := 0) (o := 1) (t' := 43) (by decide)
  have f1 := h.fld (k := 1) (o := 10) (t' := 47) (by decide)
  have f2 := h.fld (k := 2) (o := 11) (t' := 1048580) (by decide)
  exact ⟨f0.2, f1.2, f2.2.zz.2.2.1⟩
theorem iC.t43 (C : iC s R B g n) (h : jFx s u R 12) : jTt u 43 (R + 1) := (T48 (C.2.2.2.ext h.2)).1
theorem fWs.f10 (h : fWs u t (R + 1)) : jFx u t (R + 1) 10 := h.1.wide (by omega) (by omega)
theorem JSegs_eq : JSegs g = (¬ jw' g 0 = -1 ∧ 0 < it g (jw' g 0) 4 ∧ it g (jw' g 0) 4 % 2 = 0, 21, 44) :: (jw' g 0 = -1 ∨ it g (jw' g 0) 2 + it g (jw' g 0) 5 ≤ 131072, 22, jt' g (jw' g 0) 5) :: (jw' g 1 = -1 ∨ it g (jw' g 1) 2 + it g (jw' g 1) 5 ≤ 131072, 22, jt' g (jw' g 1) 5) :: (jw' g 2 = -1 ∨ it g (jw' g 2) 2 + it g (jw' g 2) 5 ≤ 131072, 22, jt' g (jw' g 2) 5) ::
  [(¬ mtI g 0 1, 23, jt' g (mxI g 0 1) 2), (¬ mtI g 0 2, 23, jt' g (mxI g 0 2) 2), (¬ mtI g 1 2, 23, jt' g (mxI g 1 2) 2)] := rfl
theorem i_rseg (C : iC s R B g n) (h : iH s u R B g n) (hw : iW u R g (JE g)) (hz : cIz u (R + 1)) (hd : Jd g n) (hr : Jr g n) : jE (m_X28_segments u R) (ckR (cOK fun t => iH s t R B g n ∧ iW t R g (JE g) ∧ cIm t (R + 1) (iM g 0)) (iBD s R) (JSegs g)) := by
  have hn := C.1.2.1
  have hb := C.1.by
  refine i_rseg1 C h hw hz hd hr fun t H W I => ?_
  rw [eu_X28_segments_148]; unfold du_X28_segments_148
  refine jS_call (i_wseg (C.t43 H.1.1) I (iM_v hd hr hb hn)) fun q ⟨k1, hq⟩ => ?_
  have H1 := H.fx k1.f10
  have W1 := W.fx k1.f10
  have I1 := I.ws k1
  generalize q.1 = t1 at k1 hq H1 W1 I1 ⊢
  generalize q.2 = r at hq ⊢
  have m1 := iM_m (m := 0) hd hr hb hn (x := 0) (y := 1) (by omega) (by omega) (by omega) (by omega)
  have m2 := iM_m (m := 0) hd hr hb hn (x := 0) (y := 2) (by omega) (by omega) (by omega) (by omega)
  have m3 := iM_m (m := 0) hd hr hb hn (x := 1) (y := 2) (by omega) (by omega) (by omega) (by omega)
  have W' : ∀ {t}, iW t R g (JE g) → ∀ x, 0 ≤ x → x < 3 → jlt t 1000 (R + 11) 3 x = some (jw' g x) := fun ht x x0 x1 => by rw [jlt_in x0 x1, ht.1 x x0 x1]; rfl
  rw [JSegs_eq]
  simp only [iM_h] at hq
  rcases hq with ⟨q1, q2⟩ | ⟨q1, q2, x, x0, x1, q3, q4, q5⟩ | ⟨q1, q4, q2, x, y, q5, q6, q7⟩ | ⟨q1, q4, q5, q2⟩
  · subst q2
    rw [if_pos rfl, eu_X28_segments_167]; unfold du_X28_segments_167
    refine jk_no q1 (jS_call (nee_no C H1.1.1) fun q hq => ?_)
    rw [show q.2.1 = true from hq.1]
    exact hq.end
  · subst q2
    rw [if_neg (by decide), eu_X28_segments_167]; unfold du_X28_segments_167
    rw [nee_ok (by decide), Option.bind_some]
    refine jk_ok q1 ?_
    have c : ¬ jw' g x = -1 := fun z => q3 (iM_w.mpr (.inl z))
    obtain ⟨a1, a2, a3, a4⟩ := jw_lo hd c
    show jE (if (2 : Int) = 2 then u_X28_segments_185 t1 R 2 0 R else u_X28_segments_185 t1 R 2 1 R) _
    rw [if_pos rfl, eu_X28_segments_185]; unfold du_X28_segments_185
    rw [if_pos rfl, q5, W' W1 x x0 x1, Option.bind_some, i_field H1 hd hn a1 a2 (by omega) (by omega), Option.bind_some, eu_X28_segments_213]; unfold du_X28_segments_213
    have bad : jE ((m_X28_need t1 R 0 22 (jt' g (jw' g x) 5)).bind fun q1 => jth q1.2.1 (some (q1.1, true, q1.2.2)) (if (2 : Int) = 3 then u_X28_segments_227 q1.1 R 2 0 R else u_X28_segments_227 q1.1 R 2 1 R)) (iBD s R 22 (jt' g (jw' g x) 5)) := jS_call (nee_no C H1.1.1) fun q hq => by
      rw [show q.2.1 = true from hq.1]
      exact hq.end
    have : x = 0 ∨ x = 1 ∨ x = 2 := by omega
    rcases this with e | e | e <;> subst e
    · exact jk_no (fun z => q3 (iM_w.mpr z)) bad
    · exact jk_ok (iM_w.mp (q4 0 (by omega) (by omega))) (jk_no (fun z => q3 (iM_w.mpr z)) bad)
    · exact jk_ok (iM_w.mp (q4 0 (by omega) (by omega))) (jk_ok (iM_w.mp (q4 1 (by omega) (by omega))) (jk_no (fun z => q3 (iM_w.mpr z)) bad))
  · subst q2
    rw [if_neg (by decide), eu_X28_segments_167]; unfold du_X28_segments_167
    rw [nee_ok (by decide), Option.bind_some]
    refine jk_ok q1 (jk_ok (iM_w.mp (q4 0 (by omega) (by omega))) (jk_ok (iM_w.mp (q4 1 (by omega) (by omega))) (jk_ok (iM_w.mp (q4 2 (by omega) (by omega))) ?_)))
    show jE (if (3 : Int) = 2 then u_X28_segments_185 t1 R 3 0 R else u_X28_segments_185 t1 R 3 1 R) _
    rw [if_neg (by decide), eu_X28_segments_185]; unfold du_X28_segments_185
    rw [if_neg (by decide), eu_X28_segments_213]; unfold du_X28_segments_213
    rw [nee_ok (by decide), Option.bind_some]
    show jE (if (3 : Int) = 3 then u_X28_segments_227 t1 R 3 0 R else u_X28_segments_227 t1 R 3 1 R) _
    rw [if_pos rfl, eu_X28_segments_227]; unfold du_X28_segments_227
    have pr : ∀ x y, 0 ≤ x → x < 3 → 0 ≤ y → y < 3 → mtI g x y → jf t1 27 (R + 1) 5 = x → jf t1 27 (R + 1) 6 = y → jE (if (3 : Int) = 3 then (jlt t1 1000 (R + 11) 3 (jf t1 27 (R + 1) 5)).bind fun v1 => (jlt t1 1000 (R + 11) 3 (jf t1 27 (R + 1) 6)).bind fun v2 => (m_X28_field t1 R (jmx v1 v2) 2).bind fun v3 => u_X28_segments_270 t1 v3 23 0 R else u_X28_segments_270 t1 0 23 0 R) (iBD s R 23 (jt' g (mxI g x y) 2)) := fun x y x0 x1 y0 y1 hm e5 e6 => by
      obtain ⟨a1, a2, -, -⟩ := jw_lo hd hm.1
      obtain ⟨b1, b2, -, -⟩ := jw_lo hd hm.2.1
      have ex : jmx (jw' g x) (jw' g y) = mxI g x y := rfl
      have : 0 ≤ mxI g x y ∧ mxI g x y < JE g := by unfold mxI; split <;> omega
      rw [if_pos rfl, e5, e6, W' W1 x x0 x1, Option.bind_some, W' W1 y y0 y1, Option.bind_some, ex, i_field H1 hd hn this.1 this.2 (by omega) (by omega), Option.bind_some, eu_X28_segments_270]; unfold du_X28_segments_270
      exact jS_call (nee_no C H1.1.1) fun q hq => by
        rw [show q.2.1 = true from hq.1]
        exact hq.end
    rcases q5 with ⟨rfl, rfl, z1⟩ | ⟨rfl, rfl, z1, z2⟩ | ⟨rfl, rfl, z1, z2, z3⟩
    · exact jk_no (fun z => z (m1.mp z1)) (pr 0 1 (by omega) (by omega) (by omega) (by omega) (m1.mp z1) q6 q7)
    · exact jk_ok (fun z => z1 (m1.mpr z)) (jk_no (fun z => z (m2.mp z2)) (pr 0 2 (by omega) (by omega) (by omega) (by omega) (m2.mp z2) q6 q7))
    · exact jk_ok (fun z => z1 (m1.mpr z)) (jk_ok (fun z => z2 (m2.mpr z)) (jk_no (fun z => z (m3.mp z3)) (pr 1 2 (by omega) (by omega) (by omega) (by omega) (m3.mp z3) q6 q7)))
  · subst q2
    rw [if_neg (by decide), eu_X28_segments_167]; unfold du_X28_segments_167
    rw [nee_ok (by decide), Option.bind_some]
    refine jk_ok q1 (jk_ok (iM_w.mp (q4 0 (by omega) (by omega))) (jk_ok (iM_w.mp (q4 1 (by omega) (by omega))) (jk_ok (iM_w.mp (q4 2 (by omega) (by omega))) ?_)))
    show jE (if (0 : Int) = 2 then u_X28_segments_185 t1 R 0 0 R else u_X28_segments_185 t1 R 0 1 R) _
    rw [if_neg (by decide), eu_X28_segments_185]; unfold du_X28_segments_185
    rw [if_neg (by decide), eu_X28_segments_213]; unfold du_X28_segments_213
    rw [nee_ok (by decide), Option.bind_some]
    show jE (if (0 : Int) = 3 then u_X28_segments_227 t1 R 0 0 R else u_X28_segments_227 t1 R 0 1 R) _
    rw [if_neg (by decide), eu_X28_segments_227]; unfold du_X28_segments_227
    rw [if_neg (by decide), eu_X28_segments_270]; unfold du_X28_segments_270
    rw [nee_ok (by decide), Option.bind_some]
    exact jk_ok (fun z => q5.1 (m1.mpr z)) (jk_ok (fun z => q5.2.1 (m2.mpr z)) (jk_ok (fun z => q5.2.2 (m3.mpr z)) (jk_end (jS_end ⟨rfl, H1, W1, I1⟩))))
end jIread4
