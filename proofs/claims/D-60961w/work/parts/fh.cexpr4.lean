/-! the component's expressions: the steps of the recursion -/
section jCexpr4
variable {s t u w v' : jS} {R x b a a' n p p' q r k c f v y e d X Y X' Y' pl lo lo' : Int} {g : Int → Int} {l m : List Int} {NL : List (List Int)} {W : wR4} {st st' : pS} {L L1 L2 : pI} {qq : jS × Bool × Int} {F : GT_sum} {G : gP}
/-- what an expression's part leaves -/
def cOut (u : jS) (R x b a : Int) (g : Int → Int) (n p e lo : Int) (pr : pR) (q : jS × Bool × Int) : Prop := match pr with
  | .inl z => q.2.1 = true ∧ cFl u R x b g n p z.1 z.2 q
  | .inr z => q.2.1 = false ∧ cR q.1 R x b a g n z.1 ∧ layT lo q.1 z.2.length q.2.2 z.2 ∧ cSt u q.1 R x b g n p z.1.1 ∧ p + e ≤ z.1.1
def SuS (F : GT_sum) (G : gP) (R x b a : Int) (g : Int → Int) (n d l : Int) : Prop := ∀ u st, cR u R x b a g n st → cRm u R g n st.1 → jE (F.1 u R d l) (cOut u R x b a g n st.1 1 (jn u) (G.1 st d l))
def MoS (F : GT_sum) (G : gP) (R x b a : Int) (g : Int → Int) (n d l : Int) : Prop := ∀ u st lo y L, cR u R x b a g n st → cRm u R g n st.1 → layT lo u L.length y L → lo ≤ jn u → jE (F.2.1 u R y d l) (cOut u R x b a g n st.1 0 lo (G.2.1 L st d l))
def SgS (F : GT_sum) (G : gP) (R x b a : Int) (g : Int → Int) (n d : Int) : Prop := ∀ u st, cR u R x b a g n st → cRm u R g n st.1 → jE (F.2.2.1 u R d) (cOut u R x b a g n st.1 1 (jn u) (G.2.2.1 st d))
def InS (F : GT_sum) (G : gP) (R x b a : Int) (g : Int → Int) (n d : Int) : Prop := ∀ u st, cR u R x b a g n st → cRm u R g n st.1 → jE (F.2.2.2 u R d) (cOut u R x b a g n st.1 1 (jn u) (G.2.2.2 st d))
theorem cOut.flt {z : Int × Int} (h : cFl u R x b g n p z.1 z.2 qq) (hq : qq.2.1 = true) : cOut u R x b a g n p e lo (.inl z) (qq.1, true, qq.2.2) := by
  obtain ⟨q1, q2, q3⟩ := qq
  have hq' : q2 = true := hq
  subst hq'
  exact ⟨rfl, h⟩
theorem ce_sum {l : Int} (h1 : SgS F G R x b a g n d) (h2 : MoS F G R x b a g n d l) (C : cR u R x b a g n st) (M : cRm u R g n st.1) : jE (mR_X44_sum F u R d l) (cOut u R x b a g n st.1 1 (jn u) (sumF G st d l)) := by
  rw [emR_X44_sum]; unfold dmR_X44_sum sumF
  refine jE_bind.mpr (jE_mono (h1 u st C M) fun q hq => ?_)
  cases hG : G.2.2.1 st d with
  | inl z =>
    rw [hG] at hq
    obtain ⟨q1, q2⟩ := hq
    rw [q1]
    exact jS_end (cOut.flt q2 q1)
  | inr z =>
    rw [hG] at hq
    obtain ⟨q1, q2, q3, q4, q5⟩ := hq
    rw [q1]
    refine jE_bind.mpr (jE_mono (h2 q.1 z.1 (jn u) q.2.2 z.2 q2 (M.after q4) q3 q4.1.1) fun q' hq' => ?_)
    cases hG' : G.2.1 z.2 z.1 d l with
    | inl z' =>
      rw [hG'] at hq'
      obtain ⟨r1, r2⟩ := hq'
      rw [r1]
      show jE (some (q'.1, true, q'.2.2)) (cOut u R x b a g n st.1 1 (jn u) (G.2.1 z.2 z.1 d l))
      rw [hG']
      exact jS_end (cOut.flt (r2.after q4) r1)
    | inr z' =>
      rw [hG'] at hq'
      obtain ⟨r1, r2, r3, r4, r5⟩ := hq'
      rw [r1]
      show jE (some (q'.1, false, q'.2.2)) (cOut u R x b a g n st.1 1 (jn u) (G.2.1 z.2 z.1 d l))
      rw [hG']
      exact jS_end ⟨rfl, r2, r3, q4.trans r4, by omega⟩
/-- the bracket that is needed behind -/
theorem x_need (C : cR u R x b a g n st) (M : cRm u R g n st.1) : jE (m_X44_need u R c) fun q =>
    if (wd g n st.1).1 = 6 then q.2.1 = true ∧ cFl u R x b g n st.1 (wd g n st.1).2.1 (wd g n st.1).2.2.1 q
    else if (wd g n st.1).1 = 5 ∧ (wd g n st.1).2.1 = c then q.2 = (false, 0) ∧ cR q.1 R x b a g n ((wd g n st.1).2.2.2, st.2) ∧ cSt u q.1 R x b g n st.1 (wd g n st.1).2.2.2 ∧ st.1 + 1 ≤ (wd g n st.1).2.2.2
    else q.2.1 = true ∧ cFl u R x b g n st.1 5 (wd g n st.1).2.2.1 q := by
  have hw := wd_in C.1.2.2.2.2.2.2.2.1.1 C.2.2.1.1 C.2.2.1.2
  rw [em_X44_need]; unfold dm_X44_need
  rw [em_X44_sees]; unfold dm_X44_sees
  refine jE_bind.mpr (jE_bind.mpr (jE_mono (cL_look C M) fun q hq => ?_))
  rcases hq with ⟨h1, h2, h3⟩ | ⟨h1, h2, h3, h4, h5, h6⟩
  · rw [h2]
    refine jS_end ?_
    refine jS_end ?_
    rw [if_pos h1]
    obtain ⟨q1, q2, q3⟩ := q
    have : q2 = true := h2
    subst this
    exact ⟨rfl, h3⟩
  rw [h2]
  have k5 : jf q.1 53 R 5 = kdO (wd g n st.1).1 := h4.1.1
  have e5 : jf q.1 53 R 5 = 5 ↔ (wd g n st.1).1 = 5 := by rw [k5]; unfold kdO; split <;> omega
  have fl : cFl u R x b g n st.1 5 (wd g n st.1).2.2.1 (rWr q.1 R 5 (jf q.1 53 R 6), true, jn q.1) := by
    rw [h4.2.2.1]; exact (cFl.thr h3).after h5
  have bd := cRm.bd h3 h6
  show jE (if jf q.1 53 R 5 = 5 then _ else _) _
  by_cases c5 : (wd g n st.1).1 = 5
  · rw [if_pos (e5.mpr c5)]
    have k7 : jf q.1 53 R 7 = (wd g n st.1).2.1 := h4.1.2.2.2.2 (by omega)
    rw [k7]
    by_cases c7 : (wd g n st.1).2.1 = c
    · rw [if_pos c7]
      refine jS_end ?_
      show jE (if Wz 1 = 0 then _ else _) _
      rw [Wz_1, if_neg (by decide), x_take, Option.bind_some]
      obtain ⟨t1, t2, t3⟩ := h3.take h4 ⟨(hw.2.2.2.1 h1).2.1, by have := hw.2.2.2.1 h1; have := hw.1; have := C.2.2.1.1; omega⟩
      refine jS_end ?_
      rw [if_neg h1, if_pos ⟨c5, c7⟩]
      refine ⟨rfl, t1, h5.trans (cSt.tk h3 h4 (by omega) t2 t3 (by omega) (by omega)), ?_⟩
      have := hw.2.2.2.1 h1; have := hw.1; omega
    · rw [if_neg c7]
      refine jS_end ?_
      show jE (if Wz 0 = 0 then _ else _) _
      rw [Wz_0, if_pos rfl]
      show jE ((m_X44_wrong q.1 R 5 (jf q.1 53 R 6)).bind _) _
      rw [c_thr ⟨bd.1, bd.2.le (by omega) (by omega)⟩]
      refine jS_end ?_
      rw [if_neg h1, if_neg (fun z => c7 z.2)]
      exact ⟨rfl, fl⟩
  · rw [if_neg (fun z => c5 (e5.mp z))]
    refine jS_end ?_
    show jE (if Wz 0 = 0 then _ else _) _
    rw [Wz_0, if_pos rfl]
    show jE ((m_X44_wrong q.1 R 5 (jf q.1 53 R 6)).bind _) _
    rw [c_thr ⟨bd.1, bd.2.le (by omega) (by omega)⟩]
    refine jS_end ?_
    rw [if_neg h1, if_neg (fun z => c5 z.1)]
    exact ⟨rfl, fl⟩
theorem ce_inb (h1 : SuS F G R x b a g n d 1) (C : cR u R x b a g n st) (M : cRm u R g n st.1) : jE (mR_X44_inBrackets F u R d) (cOut u R x b a g n st.1 1 (jn u) (inBrF g n G st d)) := by
  rw [emR_X44_inBrackets]; unfold dmR_X44_inBrackets inBrF
  refine jE_bind.mpr (jE_mono (h1 u st C M) fun q hq => ?_)
  cases hG : G.1 st d 1 with
  | inl z =>
    rw [hG] at hq
    obtain ⟨q1, q2⟩ := hq
    rw [q1]
    exact jS_end (cOut.flt q2 q1)
  | inr z =>
    rw [hG] at hq
    obtain ⟨q1, q2, q3, q4, q5⟩ := hq
    rw [q1]
    refine jE_bind.mpr (jE_mono (x_need q2 (M.after q4)) fun q' hq' => ?_)
    by_cases c6 : (wd g n z.1.1).1 = 6
    · rw [if_pos c6] at hq'
      rw [hq'.1]
      refine jS_end ?_
      show cOut u R x b a g n st.1 1 (jn u) (if (wd g n z.1.1).1 = 6 then _ else _) _
      rw [if_pos c6]
      exact cOut.flt (z := ((wd g n z.1.1).2.1, (wd g n z.1.1).2.2.1)) (hq'.2.after q4) hq'.1
    rw [if_neg c6] at hq'
    by_cases c5 : (wd g n z.1.1).1 = 5 ∧ (wd g n z.1.1).2.1 = 41
    · rw [if_pos c5] at hq'
      obtain ⟨r1, r2, r3, r4⟩ := hq'
      rw [r1]
      refine jS_end ?_
      show cOut u R x b a g n st.1 1 (jn u) (if (wd g n z.1.1).1 = 6 then _ else if (wd g n z.1.1).1 = 5 ∧ (wd g n z.1.1).2.1 = 41 then _ else _) _
      rw [if_neg c6, if_pos c5]
      exact ⟨rfl, r2, layT.ke q2.1 q2.2.1 r3 q3, q4.trans r3, by show st.1 + 1 ≤ (wd g n z.1.1).2.2.2; omega⟩
    · rw [if_neg c5] at hq'
      rw [hq'.1]
      refine jS_end ?_
      show cOut u R x b a g n st.1 1 (jn u) (if (wd g n z.1.1).1 = 6 then _ else if (wd g n z.1.1).1 = 5 ∧ (wd g n z.1.1).2.1 = 41 then _ else _) _
      rw [if_neg c6, if_neg c5]
      exact cOut.flt (z := (5, (wd g n z.1.1).2.2.1)) (hq'.2.after q4) hq'.1
end jCexpr4
