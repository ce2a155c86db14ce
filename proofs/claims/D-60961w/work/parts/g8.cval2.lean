/-! the component's values: what comes behind, items, the whole -/
section jCval2
variable {s t u u0 w v' : jS} {R x b a a' n p p' p0 q r k c f v y e d o z K S X Y X' Y' P Q pl lo lo' ln y0 eX eY f0 f1 f2 : Int} {g fl : Int → Int} {l m : List Int} {NL : List (List Int)} {W : wR4} {st st' : pS} {I I' L L1 L2 : pI} {A : Int → Prop} {OL : List pvO} {SL : List pvS} {qq : jS × Bool × Int}
theorem vS.it (h : vS u0 u R x b a S y0 g n p0 eX eY st I) (V : vX u0 R x b S g n p0) (k : itF u w b) (hI : itC w b I') : vS u0 w R x b a S y0 g n p0 eX eY st I' ∧ (∀ j, jf w 63 y0 j = jf u 63 y0 j) ∧ ∀ j, jf w 53 R j = jf u 53 R j := by
  obtain ⟨C0, h1, h2, h3, ⟨y1, y2, y3⟩, h5⟩ := h
  have V1 := V.1
  obtain ⟨C1, F⟩ := C0.bk k.bk
  have e1 : ∀ W, lkc w R W = lkc u R W := fun W => by unfold lkc; rw [F 4]
  have e2 : ∀ W, lkq w R W = lkq u R W := fun W => by unfold lkq; rw [F 4]
  have B := C0.2.1
  have hr := C0.1.1
  have hx := C0.1.row
  have nb : ∀ z, jK u z = 53 ∨ jK u z = 8 → ¬ (b ≤ z ∧ z ≤ b + 5) := fun z hz q => by
    obtain ⟨⟨e1, e2, e3⟩, -, ⟨a1, a2⟩, ⟨b1, b2⟩, ⟨c1, c2⟩, ⟨d1, d2⟩, f1, f2⟩ := B
    have : z = b ∨ z = b + 1 ∨ z = b + 2 ∨ z = b + 3 ∨ z = b + 4 ∨ z = b + 5 := by omega
    rcases this with q | q | q | q | q | q <;> rw [q] at hz <;> omega
  refine ⟨⟨C1, ?_, h2.trans k.sm, hI, ⟨y1, by rw [k.1.2.2.1]; exact y2, by rw [k.1.1]; exact y3⟩, h5⟩, fun j => k.2 _ _ _ (by omega) (by omega), F⟩
  rw [e1, e2]
  exact h1.bkw (k.gw.mono (Int.le_refl _) (Int.le_refl _) fun z _ q => by omega) ⟨nb R (.inl hr.2.2), V1.1⟩ ⟨nb x (.inr (by omega)), V1.2.1⟩
/-- the items are laid down -/
theorem x_v139 (h : vS u0 u R x b a S y0 g n p0 eX eY st I) (V : vX u0 R x b S g n p0) (G : opG u y0 f0 f1 f2 fl) (h3 : fl 3 = I.length) (h6 : jf u 63 y0 6 = y) (T : layT lo u L.length y L) (hlo : b + 5 < lo) (hl : I.length + L.length ≤ 2000) (hL : L.length ≤ 71) : ∃ w, u_X44_valued_139 u R y0 = some (w, false, 0) ∧ vS u0 w R x b a S y0 g n p0 eX eY st (I ++ L) ∧ opG w y0 f0 f1 f2 fl ∧ jf w 63 y0 4 = L.length := by
  have C := h.1
  have hI := h.2.2.2.1
  obtain ⟨y1, y2, y3⟩ := h.2.2.2.2.1
  have y00 : 0 ≤ y0 := by have := V.2.2.2.1; omega
  rw [eu_X44_valued_139]; unfold du_X44_valued_139
  rw [jrd_in y00 y3, Option.bind_some, C.1.2.2.2.1, h6]
  obtain ⟨w, e1, e2, e3⟩ := x_lay2 T (by omega) hlo C.2.1 hI hl
  rw [e1, Option.bind_some]
  obtain ⟨v1, F1, R1⟩ := h.it V e3 e2
  have C1 := v1.1
  show ∃ w', (jrd w 16 (jf w 53 R 10) 7).bind _ = some (w', false, 0) ∧ _
  rw [R1, C.1.2.2.2.1, jrd_in C1.2.1.1.1 C1.2.1.1.2.2, Option.bind_some, jrd_in y00 v1.2.2.2.2.1.2.2, Option.bind_some, e2.1, F1, G.2.2.2 3 (.inl rfl), h3, jwr_in y00 v1.2.2.2.2.1.2.2, Option.bind_some]
  have hlen : ((I ++ L).length : Int) = I.length + L.length := by rw [List.length_append]; omega
  rw [hlen, W32_in (by omega) (by omega)]
  obtain ⟨v2, R2⟩ := v1.wr (k := 4) (v := (I.length : Int) + L.length - I.length) V
  refine ⟨_, rfl, v2, ⟨?_, ?_, ?_, fun j hj => ?_⟩, ?_⟩
  · rw [jf_neg (by omega), F1]; exact G.1
  · rw [jf_neg (by omega), F1]; exact G.2.1
  · rw [jf_neg (by omega), F1]; exact G.2.2.1
  · rw [jf_neg (by omega), F1]; exact G.2.2.2 j hj
  · rw [jf_pos ⟨rfl, rfl, rfl⟩]; omega
/-- what comes behind a value -/
theorem x_tailV (h : vS u0 u R x b a S y0 g n p0 eX eY st I) (V : vX u0 R x b S g n p0) (hX : eX ≤ 5) (hY : eY ≤ 50) (G : opG u y0 0 (-1) f2 fl) (h3 : fl 3 = I.length) (h6 : jf u 63 y0 6 = y) (T : layT lo u L.length y L) (hlo : b + 5 < lo) (hy : y0 < lo) (hl : I.length + L.length ≤ 2000) (hL : L.length ≤ 71) : jE (u_X44_valued_114 u R y0) fun q => match pvTail g n (st.1, st.2.1, st.2.2.1) L f2 with
    | .inl e => cFm u0 R x b S g n p0 e.1 e.2 q
    | .inr z => q.2.1 = false ∧ vS u0 q.1 R x b a S y0 g n p0 eX eY (z.1.1, z.1.2.1, z.1.2.2, st.2.2.2) (I ++ z.2.1) ∧ opG q.1 y0 z.2.2.1 z.2.2.2.1 z.2.2.2.2 fl ∧ jf q.1 63 y0 4 = z.2.1.length := by
  have y00 : 0 ≤ y0 := by have := V.2.2.2.1; have := h.2.2.2.2.1; omega
  rw [eu_X44_valued_114]; unfold du_X44_valued_114
  rw [jrd_in y00 h.2.2.2.2.1.2.2, Option.bind_some, G.1, if_pos rfl]
  refine jE_bind.mpr (jE_mono (x_sees h.1 (h.rm V hX hY)) fun q hq => ?_)
  by_cases c6 : (wd g n st.1).1 = 6
  · rw [if_pos c6] at hq
    rw [hq.1, show pvTail g n (st.1, st.2.1, st.2.2.1) L f2 = .inl ((wd g n st.1).2.1, (wd g n st.1).2.2.1) from if_pos c6]
    exact jS_end (cFm.flt (z := ((wd g n st.1).2.1, (wd g n st.1).2.2.1)) (h.fault hX hY hq.2 hq.1))
  rw [if_neg c6] at hq
  have eT : pvTail g n (st.1, st.2.1, st.2.2.1) L f2 = if (wd g n st.1).1 = 5 ∧ (wd g n st.1).2.1 = 40 then (match pvBased g n (wd g n st.1).2.2.2 with | .inl e => .inl e | .inr z => .inr ((z.2, st.2.1, st.2.2.1), L, 2, z.1, f2)) else .inr ((st.1, st.2.1, st.2.2.1), L, 0, -1, f2) := if_neg c6
  rw [eT]
  obtain ⟨q1, C1, lk, S1⟩ := hq
  obtain ⟨v1, F1⟩ := h.step V S1 C1 (Int.le_refl _)
  have T1 := T.ke h.1.1 h.1.2.1 S1
  have G1 : opG q.1 y0 0 (-1) f2 fl := ⟨by rw [F1]; exact G.1, by rw [F1]; exact G.2.1, by rw [F1]; exact G.2.2.1, fun j hj => by rw [F1]; exact G.2.2.2 j hj⟩
  rw [q1]
  by_cases c40 : (wd g n st.1).1 = 5 ∧ (wd g n st.1).2.1 = 40
  · rw [if_pos c40, if_pos c40]
    show jE (jth false _ _) _
    rw [jth_ff, if_neg (by decide)]
    obtain ⟨w4, t1, v4, F4, R4, T4⟩ := v1.take V lk (by omega)
    rw [t1, Option.bind_some]
    have G4 : opG w4 y0 0 (-1) f2 fl := ⟨by rw [F4]; exact G1.1, by rw [F4]; exact G1.2.1, by rw [F4]; exact G1.2.2.1, fun j hj => by rw [F4]; exact G1.2.2.2 j hj⟩
    refine jE_bind.mpr (jE_mono (x_based v4 V hX hY G4) fun q5 hq5 => ?_)
    have n1 : ((wd g n st.1).2.2.2, st.2).1 = (wd g n st.1).2.2.2 := rfl
    rw [n1] at hq5
    cases hB : pvBased g n (wd g n st.1).2.2.2 with
    | inl e =>
      rw [hB] at hq5
      rw [hq5.1]
      exact jS_end (cFm.flt (z := e) hq5)
    | inr z =>
      rw [hB] at hq5
      obtain ⟨r1, v5, G5, k6, K5⟩ := hq5
      rw [r1]
      have T5 : layT lo q5.1 L.length y L := K5 lo hy _ _ _ (T4 lo _ _ _ T1)
      obtain ⟨w6, u1, u2, u3, u4⟩ := x_v139 v5 V G5 h3 (by rw [k6, F4, F1]; exact h6) T5 hlo hl hL
      show jE (u_X44_valued_139 q5.1 R y0) _
      rw [u1]
      exact jS_end ⟨rfl, u2, u3, u4⟩
  · rw [if_neg c40, if_neg c40]
    show jE (jth false _ _) _
    rw [jth_ff, if_pos rfl]
    obtain ⟨w6, u1, u2, u3, u4⟩ := x_v139 v1 V G1 h3 (by rw [F1]; exact h6) T1 hlo hl hL
    rw [u1]
    exact jS_end ⟨rfl, u2, u3, u4⟩
theorem x_markOf (h : pSg s y l) (hC : pCon s) (hl : (l.length : Int) ≤ 1000) : m_X11_markOf s y = some (mkO l) := by
  have e : ∀ i : Nat, i < 202 → mp_J2_equals s y (jc s i) = some (if l = cS i then 1 else 0) := fun i hi => s_equals h (hC.1 i hi).1 (by omega)
  have e188 := e 188 (by decide)
  have e189 := e 189 (by decide)
  have e190 := e 190 (by decide)
  have e191 := e 191 (by decide)
  rw [em_X11_markOf]; unfold dm_X11_markOf mkO
  by_cases c1 : l = cS 188
  · rw [if_pos c1] at e188; rw [show (188 : Int) = ((188 : Nat) : Int) from rfl, e188, Option.bind_some, if_neg (by decide), if_pos c1]
  rw [if_neg c1] at e188; rw [show (188 : Int) = ((188 : Nat) : Int) from rfl, e188, Option.bind_some, if_pos rfl, if_neg c1]
  by_cases c2 : l = cS 189
  · rw [if_pos c2] at e189; rw [show (189 : Int) = ((189 : Nat) : Int) from rfl, e189, Option.bind_some, if_neg (by decide), if_pos c2]
  rw [if_neg c2] at e189; rw [show (189 : Int) = ((189 : Nat) : Int) from rfl, e189, Option.bind_some, if_pos rfl, if_neg c2]
  by_cases c3 : l = cS 190
  · rw [if_pos c3] at e190; rw [show (190 : Int) = ((190 : Nat) : Int) from rfl, e190, Option.bind_some, if_neg (by decide), if_pos c3]
  rw [if_neg c3] at e190; rw [show (190 : Int) = ((190 : Nat) : Int) from rfl, e190, Option.bind_some, if_pos rfl, if_neg c3]
  by_cases c4 : l = cS 191
  · rw [if_pos c4] at e191; rw [show (191 : Int) = ((191 : Nat) : Int) from rfl, e191, Option.bind_some, if_neg (by decide), if_pos c4]
  rw [if_neg c4] at e191; rw [show (191 : Int) = ((191 : Nat) : Int) from rfl, e191, Option.bind_some, if_pos rfl, if_neg c4]
/-- an expression -/
theorem x_sumV (h : vS u0 u R x b a S y0 g n p0 eX eY st I) (V : vX u0 R x b S g n p0) (hX : eX ≤ 5) (hY : eY ≤ 50) (hz : st.2.2.2 = 0) : jE (m_X44_sum u R 1 1) fun q => match pvSum g n (st.1, st.2.1, st.2.2.1) with
    | .inl e => cFm u0 R x b S g n p0 e.1 e.2 q
    | .inr z => q.2.1 = false ∧ (∃ hh, vS u0 q.1 R x b a S y0 g n p0 eX eY (z.1.1, z.1.2.1, z.1.2.2, hh) I) ∧ layT (jn u) q.1 z.2.length q.2.2 z.2 ∧ ∀ j, jf q.1 63 y0 j = jf u 63 y0 j := by
  have hC := (ce_all (R := R) (x := x) (b := b) (a := a) (g := g) (n := n) 450 1 (by decide) (by decide)).1 1 (by decide) (by decide) (by decide) u st h.1 (h.rm V hX hY)
  rw [em_X44_sum]
  refine jE_mono hC fun q hq => ?_
  unfold pvSum
  have es : (st.1, st.2.1, st.2.2.1, (0 : Int)) = st := by
    obtain ⟨s1, s2, s3, s4⟩ := st
    have : s4 = 0 := hz
    rw [this]
  rw [show ((st.1, st.2.1, st.2.2.1) : qS).1 = st.1 from rfl, show ((st.1, st.2.1, st.2.2.1) : qS).2.1 = st.2.1 from rfl, show ((st.1, st.2.1, st.2.2.1) : qS).2.2 = st.2.2.1 from rfl, es]
  cases hG : (gp g n 450).1 st 1 1 with
  | inl e =>
    rw [hG] at hq
    exact h.fault hX hY hq.2 hq.1
  | inr z =>
    rw [hG] at hq
    obtain ⟨q1, q2, q3, q4, q5⟩ := hq
    obtain ⟨v1, F1⟩ := h.step V q4 q2 (by omega)
    exact ⟨q1, ⟨z.1.2.2.2, v1⟩, q3, F1⟩
theorem vS.slot (h : vS u0 u R x b a S y0 g n p0 eX eY st I) (V : vX u0 R x b S g n p0) (k v : Int) {lo : Int} (hlo : y0 < lo) : jwr u 63 y0 k v = some (jp u 63 y0 k v) ∧ vS u0 (jp u 63 y0 k v) R x b a S y0 g n p0 eX eY st I ∧ (∀ j, jf (jp u 63 y0 k v) 53 R j = jf u 53 R j) ∧ tmK lo u (jp u 63 y0 k v) := by
  obtain ⟨v1, F1⟩ := h.wr (k := k) (v := v) V
  obtain ⟨y1, y2, y3⟩ := h.2.2.2.2.1
  exact ⟨jwr_in (by have := V.2.2.2.1; omega) y3, v1, F1, fun d y L T => layT.lt ((jGw.rfl (A := fun z => z = y0)).jp (.inl rfl)) (fun z q => by omega) T⟩
end jCval2
