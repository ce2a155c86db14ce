/-! the component's values: marks, the whole -/
section jCval3
variable {s t u u0 w v' : jS} {R x b a a' n p p' p0 q r k c f v y e d o z K S X Y X' Y' P Q pl lo lo' ln y0 eX eY f0 f1 f2 : Int} {g fl : Int → Int} {l m : List Int} {NL : List (List Int)} {W : wR4} {st st' : pS} {I I' L L1 L2 : pI} {A : Int → Prop} {OL : List pvO} {SL : List pvS} {qq : jS × Bool × Int}
theorem opG.same (h : opG u y0 f0 f1 f2 fl) (F : ∀ j, jf w 63 y0 j = jf u 63 y0 j) : opG w y0 f0 f1 f2 fl := ⟨by rw [F]; exact h.1, by rw [F]; exact h.2.1, by rw [F]; exact h.2.2.1, fun j hj => by rw [F]; exact h.2.2.2 j hj⟩
theorem opG.slot (h : opG u y0 f0 f1 f2 fl) (hk : k = 4 ∨ k = 6) : opG (jp u 63 y0 k v) y0 f0 f1 f2 fl := ⟨by rw [jf_neg (by omega)]; exact h.1, by rw [jf_neg (by omega)]; exact h.2.1, by rw [jf_neg (by omega)]; exact h.2.2.1, fun j hj => by rw [jf_neg (by omega)]; exact h.2.2.2 j hj⟩
theorem vS.mono (h : vS u0 u R x b a S y0 g n p0 eX eY st I) {eX' eY' : Int} (hX : eX ≤ eX') (hY : eY ≤ eY') : vS u0 u R x b a S y0 g n p0 eX' eY' st I := ⟨h.1, h.2.1.mono (by omega) (by omega), h.2.2⟩
/-- a wrong word -/
theorem vS.wrong (h : vS u0 u R x b a S y0 g n p0 eX eY st I) (V : vX u0 R x b S g n p0) (hX : eX ≤ 5) (hY : eY ≤ 50) : ∃ qq, ((m_X44_wrong u R f pl).bind fun q => jck0 q.2 (some (q.1, true, q.2))) = some qq ∧ cFm u0 R x b S g n p0 f pl qq := by
  have bd := cRm.bd h.1 (h.rm V hX hY)
  rw [c_thr ⟨bd.1, bd.2.le (by omega) (by omega)⟩]
  exact ⟨_, rfl, h.fault hX hY (cFl.thr h.1) rfl⟩
/-- an expression with a mark -/
theorem x_markedV (h : vS u0 u R x b a S y0 g n p0 eX eY st I) (V : vX u0 R x b S g n p0) (hX : eX ≤ 5) (hY : eY ≤ 50) (hz : st.2.2.2 = 0) (G : opG u y0 0 (-1) 0 fl) : jE (m_X44_marked u R y0) fun q => match pvMarked g n (st.1, st.2.1, st.2.2.1) with
    | .inl e => cFm u0 R x b S g n p0 e.1 e.2 q
    | .inr z => q.2.1 = false ∧ ∃ hh lo, vS u0 q.1 R x b a S y0 g n p0 eX eY (z.1.1, z.1.2.1, z.1.2.2, hh) I ∧ opG q.1 y0 0 (-1) z.2.2 fl ∧ layT lo q.1 z.2.1.length (jf q.1 63 y0 6) z.2.1 ∧ b + 5 < lo ∧ y0 < lo := by
  have nb := V.1.2.2
  have h5 := h.2.2.2.2.1
  rw [em_X44_marked]; unfold dm_X44_marked
  refine jE_bind.mpr (jE_mono (cL_look h.1 (h.rm V hX hY)) fun q hq => ?_)
  rcases hq with ⟨h1, h2, h3⟩ | ⟨h1, h2, C1, lk, S1, M1⟩
  · rw [h2, show pvMarked g n (st.1, st.2.1, st.2.2.1) = .inl ((wd g n st.1).2.1, (wd g n st.1).2.2.1) from if_pos h1]
    exact jS_end (cFm.flt (z := ((wd g n st.1).2.1, (wd g n st.1).2.2.1)) (h.fault hX hY h3 h2))
  rw [h2]
  have h1' : ¬ (wd g n ((st.1, st.2.1, st.2.2.1) : qS).1).1 = 6 := h1
  obtain ⟨v1, F1⟩ := h.step V S1 C1 (Int.le_refl _)
  have G1 := G.same F1
  show jE (if jf q.1 53 R 5 = 1 then _ else _) _
  have k5 : jf q.1 53 R 5 = kdO (wd g n st.1).1 := lk.1.1
  have e1 : jf q.1 53 R 5 = 1 ↔ (wd g n st.1).1 = 1 ∨ (wd g n st.1).1 = 7 := by rw [k5]; unfold kdO; split <;> omega
  by_cases ck : (wd g n st.1).1 = 1 ∨ (wd g n st.1).1 = 7
  rotate_left
  · rw [if_neg (fun z => ck (e1.mp z)), show pvMarked g n (st.1, st.2.1, st.2.2.1) = .inl (5, (wd g n st.1).2.2.1) from (if_neg h1').trans (if_pos ck)]
    obtain ⟨qq, w1, w2⟩ := v1.wrong (f := 5) (pl := jf q.1 53 R 6) V hX hY
    rw [w1]
    rw [lk.2.2.1] at w2
    exact jS_end w2
  rw [if_pos (e1.mpr ck)]
  have nck : ¬ ¬ ((wd g n ((st.1, st.2.1, st.2.2.1) : qS).1).1 = 1 ∨ (wd g n ((st.1, st.2.1, st.2.2.1) : qS).1).1 = 7) := fun z => z ck
  have hw := wd_in C1.1.2.2.2.2.2.2.2.1.1 C1.2.2.1.1 C1.2.2.1.2
  have hl := nmO_len (g := g) (hw.2.2.2.1 lk.2.2.2.2).1
  have h16 := hw.2.2.2.2.1 ck
  rw [x_markOf (lk.1.2.2.1 ck).1.1 C1.1.2.2.2.2.2.2.2.2.2.2 (by omega), Option.bind_some]
  obtain ⟨s1, v2, R2, T2⟩ := v1.slot V 2 (mkO (nmO g (wd g n st.1).2.2.1 (wd g n st.1).2.2.2)) (lo := jn u) h5.2.1
  rw [s1, Option.bind_some]
  obtain ⟨mk, hmk⟩ : ∃ mk, mk = mkO (nmO g (wd g n st.1).2.2.1 (wd g n st.1).2.2.2) := ⟨_, rfl⟩
  rw [← hmk] at s1 v2 R2 T2 ⊢
  have G2 : opG (jp q.1 63 y0 2 mk) y0 0 (-1) mk fl := ⟨by rw [jf_neg (by omega)]; exact G1.1, by rw [jf_neg (by omega)]; exact G1.2.1, jf_pos ⟨rfl, rfl, rfl⟩, fun j hj => by rw [jf_neg (by omega)]; exact G1.2.2.2 j hj⟩
  have y00 : 0 ≤ y0 := by have := V.2.2.2.1; omega
  rw [jrd_in y00 v2.2.2.2.2.1.2.2, Option.bind_some, G2.2.2.1]
  have lk2 : lkS (jp q.1 63 y0 2 mk) R x g n (wd g n st.1) := by
    have b1 : bkF q.1 (jp q.1 63 y0 2 mk) b 0 0 := ⟨((jGw.rfl (A := fun z => z = y0)).jp (.inl rfl)).mono (Int.le_refl _) (Int.le_refl _) fun z _ q => by unfold bkA; rw [q, v1.2.2.2.2.1.2.2]; omega, fun j _ => by rw [jf_neg (by omega)]⟩
    exact lk.bk C1.1 C1.2.1 b1
  by_cases c0 : mk = 0
  · rw [if_pos c0, show pvMarked g n (st.1, st.2.1, st.2.2.1) = .inl (6, (wd g n st.1).2.2.1) from (if_neg h1').trans ((if_neg nck).trans (if_pos (hmk.symm.trans c0)))]
    obtain ⟨qq, w1, w2⟩ := v2.wrong (f := 6) (pl := jf (jp q.1 63 y0 2 mk) 53 R 6) V hX hY
    rw [w1]
    rw [lk2.2.2.1] at w2
    exact jS_end w2
  rw [if_neg c0]
  have eM : pvMarked g n (st.1, st.2.1, st.2.2.1) = (match pvNeed g n (wd g n st.1).2.2.2 40 with
    | .inl e => .inl e
    | .inr p1 => match pvSum g n (p1, st.2.1, st.2.2.1) with
      | .inl e => .inl e
      | .inr z => match pvNeed g n z.1.1 41 with
        | .inl e => .inl e
        | .inr p2 => .inr ((p2, z.1.2), z.2, mk)) := by
    rw [hmk]; exact (if_neg h1').trans ((if_neg nck).trans (if_neg (fun z => c0 (hmk.trans z))))
  obtain ⟨w4, t1, v4, F4, R4, T4⟩ := v2.take V lk2 (by omega)
  rw [t1, Option.bind_some]
  have G4 := G2.same F4
  refine jE_bind.mpr (jE_mono (x_need v4.1 (v4.rm V hX hY)) fun q5 hq5 => ?_)
  have n1 : (wd g n ((wd g n st.1).2.2.2, st.2).1) = wd g n (wd g n st.1).2.2.2 := rfl
  rw [n1] at hq5
  by_cases c6 : (wd g n (wd g n st.1).2.2.2).1 = 6
  · rw [if_pos c6] at hq5
    rw [hq5.1, show pvMarked g n (st.1, st.2.1, st.2.2.1) = .inl ((wd g n (wd g n st.1).2.2.2).2.1, (wd g n (wd g n st.1).2.2.2).2.2.1) by rw [eM, show pvNeed g n (wd g n st.1).2.2.2 40 = .inl ((wd g n (wd g n st.1).2.2.2).2.1, (wd g n (wd g n st.1).2.2.2).2.2.1) from if_pos c6]]
    exact jS_end (cFm.flt (z := ((wd g n (wd g n st.1).2.2.2).2.1, (wd g n (wd g n st.1).2.2.2).2.2.1)) (v4.fault hX hY hq5.2 hq5.1))
  rw [if_neg c6] at hq5
  by_cases c40 : (wd g n (wd g n st.1).2.2.2).1 = 5 ∧ (wd g n (wd g n st.1).2.2.2).2.1 = 40
  rotate_left
  · rw [if_neg c40] at hq5
    rw [hq5.1, show pvMarked g n (st.1, st.2.1, st.2.2.1) = .inl (5, (wd g n (wd g n st.1).2.2.2).2.2.1) by rw [eM, show pvNeed g n (wd g n st.1).2.2.2 40 = .inl (5, (wd g n (wd g n st.1).2.2.2).2.2.1) from (if_neg c6).trans (if_neg c40)]]
    exact jS_end (cFm.flt (z := (5, (wd g n (wd g n st.1).2.2.2).2.2.1)) (v4.fault hX hY hq5.2 hq5.1))
  rw [if_pos c40] at hq5
  have eM2 : pvMarked g n (st.1, st.2.1, st.2.2.1) = (match pvSum g n ((wd g n (wd g n st.1).2.2.2).2.2.2, st.2.1, st.2.2.1) with
      | .inl e => .inl e
      | .inr z => match pvNeed g n z.1.1 41 with
        | .inl e => .inl e
        | .inr p2 => .inr ((p2, z.1.2), z.2, mk)) := by
    rw [eM, show pvNeed g n (wd g n st.1).2.2.2 40 = .inr (wd g n (wd g n st.1).2.2.2).2.2.2 from (if_neg c6).trans (if_pos c40)]
  obtain ⟨r1, C5, S5, p5⟩ := hq5
  rw [r1]
  obtain ⟨v5, F5⟩ := v4.step V S5 C5 (by omega)
  have G5 := G4.same F5
  show jE ((m_X44_sum q5.1 R 1 1).bind _) _
  refine jE_bind.mpr (jE_mono (x_sumV v5 V hX hY hz) fun q6 hq6 => ?_)
  have e6 : (((wd g n (wd g n st.1).2.2.2).2.2.2, st.2) : pS).1 = (wd g n (wd g n st.1).2.2.2).2.2.2 := rfl
  rw [e6] at hq6
  cases hS : pvSum g n ((wd g n (wd g n st.1).2.2.2).2.2.2, st.2.1, st.2.2.1) with
  | inl e =>
    rw [hS] at hq6
    rw [show q6.2.1 = true from hq6.1, show pvMarked g n (st.1, st.2.1, st.2.2.1) = .inl e by rw [eM2, hS]]
    exact jS_end (cFm.flt (z := e) hq6)
  | inr z =>
    rw [hS] at hq6
    have eM3 : pvMarked g n (st.1, st.2.1, st.2.2.1) = (match pvNeed g n z.1.1 41 with
        | .inl e => .inl e
        | .inr p2 => .inr ((p2, z.1.2), z.2, mk)) := by rw [eM2, hS]
    obtain ⟨u1, ⟨hh, v6⟩, T6, F6⟩ := hq6
    rw [u1]
    have G6 := G5.same F6
    have b6 := v6.2.2.2.2.1
    have b5 := v5.2.2.2.2.1
    have l5 : b + 5 < jn q5.1 := by have := v5.2.1.1; omega
    obtain ⟨s7, v7, R7, T7⟩ := v6.slot V 6 q6.2.2 (lo := jn q5.1) b5.2.1
    show jE ((jwr q6.1 63 y0 6 q6.2.2).bind _) _
    rw [s7, Option.bind_some]
    have G7 := G6.slot (k := 6) (v := q6.2.2) (.inr rfl)
    refine jE_bind.mpr (jE_mono (x_need v7.1 (v7.rm V hX hY)) fun q8 hq8 => ?_)
    rw [show (wd g n ((z.1.1, z.1.2.1, z.1.2.2, hh) : pS).1) = wd g n z.1.1 from rfl] at hq8
    by_cases d6 : (wd g n z.1.1).1 = 6
    · rw [if_pos d6] at hq8
      rw [hq8.1, show pvMarked g n (st.1, st.2.1, st.2.2.1) = .inl ((wd g n z.1.1).2.1, (wd g n z.1.1).2.2.1) by rw [eM3, show pvNeed g n z.1.1 41 = .inl ((wd g n z.1.1).2.1, (wd g n z.1.1).2.2.1) from if_pos d6]]
      exact jS_end (cFm.flt (z := ((wd g n z.1.1).2.1, (wd g n z.1.1).2.2.1)) (v7.fault hX hY hq8.2 hq8.1))
    rw [if_neg d6] at hq8
    by_cases c41 : (wd g n z.1.1).1 = 5 ∧ (wd g n z.1.1).2.1 = 41
    rotate_left
    · rw [if_neg c41] at hq8
      rw [hq8.1, show pvMarked g n (st.1, st.2.1, st.2.2.1) = .inl (5, (wd g n z.1.1).2.2.1) by rw [eM3, show pvNeed g n z.1.1 41 = .inl (5, (wd g n z.1.1).2.2.1) from (if_neg d6).trans (if_neg c41)]]
      exact jS_end (cFm.flt (z := (5, (wd g n z.1.1).2.2.1)) (v7.fault hX hY hq8.2 hq8.1))
    rw [if_pos c41] at hq8
    rw [show pvMarked g n (st.1, st.2.1, st.2.2.1) = .inr (((wd g n z.1.1).2.2.2, z.1.2), z.2, mk) by rw [eM3, show pvNeed g n z.1.1 41 = .inr (wd g n z.1.1).2.2.2 from (if_neg d6).trans (if_pos c41)]]
    obtain ⟨r8, C8, S8, p8⟩ := hq8
    rw [r8]
    obtain ⟨v8, F8⟩ := v7.step V S8 C8 (by show z.1.1 ≤ _; omega)
    refine jS_end ⟨rfl, hh, jn q5.1, v8, G7.same F8, ?_, l5, b5.2.1⟩
    rw [F8, jf_pos ⟨rfl, rfl, rfl⟩]
    exact (T7 _ _ _ T6).ke v7.1.1 v7.1.2.1 S8
end jCval3
