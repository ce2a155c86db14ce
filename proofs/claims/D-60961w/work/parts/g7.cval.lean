/-! the component's values: what is kept, bases -/
section jCval
variable {s t u u0 w v' : jS} {R x b a a' n p p' p0 q r k c f v y e d o z K S X Y X' Y' P Q pl lo lo' ln y0 eX eY f0 f1 f2 : Int} {g fl : Int → Int} {l m : List Int} {NL : List (List Int)} {W : wR4} {st st' : pS} {I L L1 L2 : pI} {A : Int → Prop} {OL : List pvO} {SL : List pvS} {qq : jS × Bool × Int}
def vX (u0 : jS) (R x b S : Int) (g : Int → Int) (n p0 : Int) : Prop := (R < jn u0 ∧ x < jn u0 ∧ b + 5 < jn u0) ∧ (¬ S = R ∧ ¬ S = x ∧ S < jn u0) ∧ cRn u0 R g n p0 ∧ 0 ≤ jn u0 ∧ lkc u0 R (wd g n p0) ≤ 3 * (n - p0) ∧ lkq u0 R (wd g n p0) ≤ 2600 * (n - p0) ∧ p0 ≤ n
def vS (u0 u : jS) (R x b a S y0 : Int) (g : Int → Int) (n p0 eX eY : Int) (st : pS) (I : pI) : Prop := cR u R x b a g n st ∧ cF u0 u R x b S (20 * (st.1 - p0) + eX + (lkc u R (wd g n st.1) - lkc u0 R (wd g n p0))) (2700 * (st.1 - p0) + eY + (lkq u R (wd g n st.1) - lkq u0 R (wd g n p0))) ∧ sm5 u0 u b ∧ itC u b I ∧ (jn u0 ≤ y0 ∧ y0 < jn u ∧ jK u y0 = 63) ∧ p0 ≤ st.1
/-- terms stay -/
def tmK (lo : Int) (u w : jS) : Prop := ∀ (d : Nat) (y : Int) (L : pI), layT lo u d y L → layT lo w d y L
/-- the operand's slots: sort, register, mark; the others -/
def opG (u : jS) (y0 f0 f1 f2 : Int) (fl : Int → Int) : Prop := jf u 63 y0 0 = f0 ∧ jf u 63 y0 1 = f1 ∧ jf u 63 y0 2 = f2 ∧ ∀ j, (j = 3 ∨ j = 5 ∨ j = 7) → jf u 63 y0 j = fl j
theorem vS.rm (h : vS u0 u R x b a S y0 g n p0 eX eY st I) (V : vX u0 R x b S g n p0) (hX : eX ≤ 5) (hY : eY ≤ 50) : cRm u R g n st.1 := by
  obtain ⟨h0, h1, h2⟩ := V.2.2.1
  obtain ⟨⟨k1, k2, k3, k4, k5, k6⟩, -⟩ := h.2.1
  have hp := h.2.2.2.2.2
  have p1 := h.1.2.2.1.2
  have l := h.1.lk
  have v1 := V.2.2.2.2
  exact ⟨by omega, by rw [k4]; omega, by rw [k5]; omega⟩
theorem vS.fault (h : vS u0 u R x b a S y0 g n p0 eX eY st I) (hX : eX ≤ 5) (hY : eY ≤ 50) (k : cFl u R x b g n st.1 f pl qq) (hq : qq.2.1 = true) : cFm u0 R x b S g n p0 f pl qq := by
  have hp := h.2.2.2.2.2
  have p1 := h.1.2.2.1.2
  refine ⟨hq, k.1, ((cF.gw h.2.1).trans k.2 fun y hy z => ?_).mono (by omega) (by omega) fun y _ z => z⟩
  rcases z with z | z
  · exact z
  · refine fA.after h.2.1 (?_ : fA u R x b S y) hy
    rcases z with z | z | z
    · exact .inl z
    · exact .inr (.inl (by omega))
    · exact .inr (.inl (by omega))
theorem vS.step (h : vS u0 u R x b a S y0 g n p0 eX eY st I) (V : vX u0 R x b S g n p0) (k : cSt u w R x b g n st.1 st'.1) (C : cR w R x b a g n st') (hp : st.1 ≤ st'.1) : vS u0 w R x b a S y0 g n p0 eX eY st' I ∧ ∀ j, jf w 63 y0 j = jf u 63 y0 j := by
  obtain ⟨C0, h1, h2, h3, ⟨y1, y2, y3⟩, h5⟩ := h
  have nn := h1.1
  have V1 := V.1
  obtain ⟨m5, m7⟩ := kpE.sm C0.1 C0.2.1 (by omega) k
  have hr := C0.1.1.2.2
  have hx := C0.1.row
  have ky : ¬ (y0 = R ∨ y0 = x ∨ y0 = jf u 8 x 0) := fun z => by
    rcases z with z | z | z <;> rw [z] at y3 <;> omega
  have k1 := k.1
  exact ⟨⟨C, (h1.trans k.cf).mono (by omega) (by omega), h2.trans m5, h3.sm m7, ⟨y1, by omega, by rw [(k.2.1 y0 y2).1]; exact y3⟩, by omega⟩, fun j => k.2.2.1 _ _ _ y2 ky (by omega) (by omega)⟩
theorem vS.stepK (h : vS u0 u R x b a S y0 g n p0 eX eY st I) (V : vX u0 R x b S g n p0) (k : kpE u w R x b 0 0) (C : cR w R x b a g n st') (hp : st'.1 = st.1) (h4 : jf w 53 R 4 = jf u 53 R 4) : vS u0 w R x b a S y0 g n p0 eX eY st' I ∧ ∀ j, jf w 63 y0 j = jf u 63 y0 j := by
  refine h.step V ?_ C (by omega)
  rw [hp]
  refine k.mono ?_ ?_
  · unfold lkc; rw [h4]; omega
  · unfold lkq; rw [h4]; omega
/-- the operand's slot is written -/
theorem vS.wr (h : vS u0 u R x b a S y0 g n p0 eX eY st I) (V : vX u0 R x b S g n p0) : vS u0 (jp u 63 y0 k v) R x b a S y0 g n p0 eX eY st I ∧ ∀ j, jf (jp u 63 y0 k v) 53 R j = jf u 53 R j := by
  obtain ⟨C0, h1, h2, h3, ⟨y1, y2, y3⟩, h5⟩ := h
  have V1 := V.1
  have g1 : jGw u (jp u 63 y0 k v) 0 0 (fun z => z = y0) := (jGw.rfl (A := fun z => z = y0)).jp (.inl rfl)
  have bk : bkF u (jp u 63 y0 k v) b 0 0 := ⟨g1.mono (Int.le_refl _) (Int.le_refl _) fun z _ q => by unfold bkA; rw [q, y3]; omega, fun j _ => jf_neg (by omega)⟩
  obtain ⟨C1, F⟩ := C0.bk bk
  obtain ⟨m5, m7⟩ := sm_gw (b := b) g1 (by have := h1.1; omega) (fun z q => by omega)
  have e1 : ∀ W, lkc (jp u 63 y0 k v) R W = lkc u R W := fun W => by unfold lkc; rw [F 4]
  have e2 : ∀ W, lkq (jp u 63 y0 k v) R W = lkq u R W := fun W => by unfold lkq; rw [F 4]
  refine ⟨⟨C1, ?_, h2.trans m5, h3.sm m7, ⟨y1, y2, y3⟩, h5⟩, F⟩
  rw [e1, e2]
  exact (h1.then (g1.mono (Int.le_refl _) (Int.le_refl _) fun z _ q => by omega) V1.1 V1.2.1 ⟨V.2.1.1, V.2.1.2.1⟩).mono (by omega) (by omega)
/-- a sign is seen or not -/
theorem x_sees (C : cR u R x b a g n st) (M : cRm u R g n st.1) : jE (m_X44_sees u R c) fun q =>
    if (wd g n st.1).1 = 6 then q.2.1 = true ∧ cFl u R x b g n st.1 (wd g n st.1).2.1 (wd g n st.1).2.2.1 q
    else q.2 = (false, if (wd g n st.1).1 = 5 ∧ (wd g n st.1).2.1 = c then 1 else 0) ∧ cR q.1 R x b a g n st ∧ lkS q.1 R x g n (wd g n st.1) ∧ cSt u q.1 R x b g n st.1 st.1 := by
  rw [em_X44_sees]; unfold dm_X44_sees
  refine jE_bind.mpr (jE_mono (cL_look C M) fun q hq => ?_)
  rcases hq with ⟨h1, h2, h3⟩ | ⟨h1, h2, h3, h4, h5, h6⟩
  · rw [h2]
    refine jS_end ?_
    rw [if_pos h1]
    obtain ⟨q1, q2, q3⟩ := q
    have : q2 = true := h2
    subst this
    exact ⟨rfl, h3⟩
  rw [h2]
  simp only [if_neg h1]
  have k5 : jf q.1 53 R 5 = kdO (wd g n st.1).1 := h4.1.1
  have e5 : jf q.1 53 R 5 = 5 ↔ (wd g n st.1).1 = 5 := by rw [k5]; unfold kdO; split <;> omega
  show jE (if jf q.1 53 R 5 = 5 then _ else _) _
  by_cases c5 : (wd g n st.1).1 = 5
  · rw [if_pos (e5.mpr c5), h4.1.2.2.2.2 (by omega)]
    by_cases c7 : (wd g n st.1).2.1 = c
    · rw [if_pos c7]; exact jS_end ⟨by rw [if_pos ⟨c5, c7⟩, Wz_1], h3, h4, h5⟩
    · rw [if_neg c7]; exact jS_end ⟨by rw [if_neg (fun z => c7 z.2), Wz_0], h3, h4, h5⟩
  · rw [if_neg (fun z => c5 (e5.mp z))]; exact jS_end ⟨by rw [if_neg (fun z => c5 z.1), Wz_0], h3, h4, h5⟩
/-- the word at hand is taken -/
theorem vS.take (h : vS u0 u R x b a S y0 g n p0 eX eY st I) (V : vX u0 R x b S g n p0) (lk : lkS u R x g n (wd g n st.1)) (hz : ¬ (wd g n st.1).1 = 0) : ∃ w, m_X44_take u R = some (w, 0) ∧ vS u0 w R x b a S y0 g n p0 eX eY ((wd g n st.1).2.2.2, st.2) I ∧ (∀ j, jf w 63 y0 j = jf u 63 y0 j) ∧ (∀ j, ¬ (j = 2 ∨ j = 4) → jf w 53 R j = jf u 53 R j) ∧ ∀ lo, tmK lo u w := by
  have C := h.1
  have hw := wd_in C.1.2.2.2.2.2.2.2.1.1 C.2.2.1.1 C.2.2.1.2
  have h7 := hw.2.2.2.1 lk.2.2.2.2
  obtain ⟨t1, t2, t3⟩ := C.take lk ⟨h7.2.1, by have := hw.1; have := C.2.2.1.1; omega⟩
  obtain ⟨v1, v2⟩ := h.step V (st' := ((wd g n st.1).2.2.2, st.2)) (cSt.tk C lk hz t2 t3 (by omega) (by omega)) t1 (by show st.1 ≤ (wd g n st.1).2.2.2; omega)
  exact ⟨_, x_take, v1, v2, fun j hj => by rw [jf_neg (by omega), jf_neg (by omega)], fun lo d y L T => T.ke C.1 C.2.1 t2⟩
theorem cFm.flt {z : fE} (h : cFm u0 R x b S g n p0 z.1 z.2 qq) : cFm u0 R x b S g n p0 z.1 z.2 (qq.1, true, qq.2.2) := by
  obtain ⟨q1, q2, q3⟩ := qq
  have hq' : q2 = true := h.1
  subst hq'
  exact h
/-- a base -/
theorem x_based (h : vS u0 u R x b a S y0 g n p0 eX eY st I) (V : vX u0 R x b S g n p0) (hX : eX ≤ 5) (hY : eY ≤ 50) (G : opG u y0 f0 f1 f2 fl) : jE (m_X44_based u R y0) fun q => match pvBased g n st.1 with
    | .inl e => cFm u0 R x b S g n p0 e.1 e.2 q
    | .inr z => q.2.1 = false ∧ vS u0 q.1 R x b a S y0 g n p0 eX eY (z.2, st.2) I ∧ opG q.1 y0 2 z.1 f2 fl ∧ jf q.1 63 y0 6 = jf u 63 y0 6 ∧ ∀ lo, y0 < lo → tmK lo u q.1 := by
  rw [em_X44_based]; unfold dm_X44_based
  refine jE_bind.mpr (jE_mono (cL_look h.1 (h.rm V hX hY)) fun q hq => ?_)
  unfold pvBased
  rcases hq with ⟨h1, h2, h3⟩ | ⟨h1, h2, C1, lk, S1, M1⟩
  · rw [h2, if_pos h1]
    exact jS_end (cFm.flt (z := ((wd g n st.1).2.1, (wd g n st.1).2.2.1)) (h.fault hX hY h3 h2))
  rw [h2, if_neg h1]
  obtain ⟨v1, F1⟩ := h.step V S1 C1 (Int.le_refl _)
  show jE (if jf q.1 53 R 5 = 1 then _ else _) _
  have k5 : jf q.1 53 R 5 = kdO (wd g n st.1).1 := lk.1.1
  have e1 : jf q.1 53 R 5 = 1 ↔ (wd g n st.1).1 = 1 ∨ (wd g n st.1).1 = 7 := by rw [k5]; unfold kdO; split <;> omega
  have bd := cRm.bd C1 M1
  have e20 : jE (u_X44_based_20 q.1 R) fun q => cFm u0 R x b S g n p0 5 (wd g n st.1).2.2.1 q := by
    rw [eu_X44_based_20]; unfold du_X44_based_20
    rw [c_thr ⟨bd.1, bd.2.le (by omega) (by omega)⟩, lk.2.2.1]
    exact jS_end (v1.fault hX hY (cFl.thr C1) rfl)
  by_cases ck : (wd g n st.1).1 = 1 ∨ (wd g n st.1).1 = 7
  rotate_left
  · rw [if_neg (fun z => ck (e1.mp z)), if_pos (show pvReg g (wd g n st.1) = -1 by unfold pvReg; rw [if_neg ck])]
    exact e20
  have rg : pvReg g (wd g n st.1) = rgO (nmO g (wd g n st.1).2.2.1 (wd g n st.1).2.2.2) := by unfold pvReg; rw [if_pos ck]
  rw [if_pos (e1.mpr ck), (lk.1.2.2.1 ck).2, ← rg]
  by_cases cr : pvReg g (wd g n st.1) = -1
  · rw [if_pos cr, if_pos cr]; exact e20
  rw [if_neg cr, if_neg cr]
  have v1' := v1
  obtain ⟨C0, hF, -, -, ⟨y1, y2, y3⟩, -⟩ := v1'
  have y00 : 0 ≤ y0 := by have := V.2.2.2.1; omega
  obtain ⟨v2, R2⟩ := v1.wr (k := 0) (v := 2) V
  obtain ⟨v3, R3⟩ := v2.wr (k := 1) (v := pvReg g (wd g n st.1)) V
  have lk3 : lkS (jp (jp q.1 63 y0 0 2) 63 y0 1 (pvReg g (wd g n st.1))) R x g n (wd g n st.1) := by
    have b1 : bkF q.1 (jp (jp q.1 63 y0 0 2) 63 y0 1 (pvReg g (wd g n st.1))) b 0 0 := ⟨(((jGw.rfl (A := fun z => z = y0)).jp (.inl rfl)).jp (.inl rfl)).mono (Int.le_refl _) (Int.le_refl _) fun z _ q => by unfold bkA; rw [q, y3]; omega, fun j _ => by rw [jf_neg (by omega), jf_neg (by omega)]⟩
    exact lk.bk C1.1 C1.2.1 b1
  rw [jwr_in y00 y3, Option.bind_some, jf_neg (by omega), (lk.1.2.2.1 ck).2, ← rg, jwr_in (s := jp q.1 63 y0 0 2) y00 y3, Option.bind_some]
  obtain ⟨w4, t1, v4, F4, R4, T4⟩ := v3.take V lk3 (by omega)
  rw [t1, Option.bind_some]
  refine jE_bind.mpr (jE_mono (x_need v4.1 (v4.rm V hX hY)) fun q5 hq5 => ?_)
  have n1 : (wd g n ((wd g n st.1).2.2.2, st.2).1) = wd g n (wd g n st.1).2.2.2 := rfl
  rw [n1] at hq5
  unfold pvNeed
  by_cases c6 : (wd g n (wd g n st.1).2.2.2).1 = 6
  · rw [if_pos c6] at hq5
    rw [hq5.1, if_pos c6]
    exact jS_end (cFm.flt (z := ((wd g n (wd g n st.1).2.2.2).2.1, (wd g n (wd g n st.1).2.2.2).2.2.1)) (v4.fault hX hY hq5.2 hq5.1))
  rw [if_neg c6] at hq5 ⊢
  by_cases c41 : (wd g n (wd g n st.1).2.2.2).1 = 5 ∧ (wd g n (wd g n st.1).2.2.2).2.1 = 41
  · rw [if_pos c41] at hq5 ⊢
    obtain ⟨r1, C5, S5, p5⟩ := hq5
    rw [r1]
    obtain ⟨v5, F5⟩ := v4.step V S5 C5 (by omega)
    refine jS_end ⟨rfl, v5, ⟨?_, ?_, ?_, fun j hj => ?_⟩, ?_, fun lo hlo d y L T => ?_⟩
    · rw [F5, F4, jf_neg (by omega), jf_pos ⟨rfl, rfl, rfl⟩]
    · rw [F5, F4, jf_pos ⟨rfl, rfl, rfl⟩]
    · rw [F5, F4, jf_neg (by omega), jf_neg (by omega), F1]; exact G.2.2.1
    · rw [F5, F4, jf_neg (by omega), jf_neg (by omega), F1]; exact G.2.2.2 j hj
    · rw [F5, F4, jf_neg (by omega), jf_neg (by omega), F1]
    · exact (T4 lo _ _ _ (layT.lt (((jGw.rfl (A := fun z => z = y0)).jp (.inl rfl)).jp (.inl rfl)) (fun z q => by omega) (T.ke h.1.1 h.1.2.1 S1))).ke v4.1.1 v4.1.2.1 S5
  · rw [if_neg c41] at hq5 ⊢
    rw [hq5.1]
    exact jS_end (cFm.flt (z := (5, (wd g n (wd g n st.1).2.2.2).2.2.1)) (v4.fault hX hY hq5.2 hq5.1))
end jCval
