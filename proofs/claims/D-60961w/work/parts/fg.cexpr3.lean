/-! the component's expressions: budgets, what a step leaves -/
section jCexpr3
variable {s t u w v' : jS} {R x b a a' n p p' q r k c f v y e P Q X Y X' Y' pl lo : Int} {g : Int → Int} {l m : List Int} {NL : List (List Int)} {W : wR4} {st st' : pS} {L L1 L2 : pI} {qq : jS × Bool × Int}
theorem kpE.then (h : kpE u w R x b X Y) (k : jGw w v' X' Y' fun z => jn u ≤ z) (hR : R < jn u) (hx : x < jn u) : kpE u v' R x b (X + X') (Y + Y') := by
  obtain ⟨⟨h1, h2, h3, h4, h5, h6⟩, h7, h8, h9, h10⟩ := h
  obtain ⟨⟨k1, k2, k3, k4, k5, k6⟩, k7, k8⟩ := k
  have F : ∀ c y j, y < jn u → jf v' c y j = jf w c y j := fun c y j hy => k8 c y j (by omega) (by omega)
  refine ⟨⟨by omega, by omega, by omega, k4.trans h4, k5.trans h5, k6.trans h6⟩, fun y hy => ⟨((k7 y (by omega)).1).trans (h7 y hy).1, ((k7 y (by omega)).2).trans (h7 y hy).2⟩, fun c y j hy z z1 z2 => ?_, ?_, fun j hj => ?_⟩
  · rw [F c y j hy]; exact h8 c y j hy z z1 z2
  · rw [F 8 x 0 hx]; exact h9
  · rw [F 53 R j hR]; exact h10 j hj
def tmA (u : jS) : Int → Prop := fun z => jK u z = 65 ∨ jK u z = 66 ∨ jK u z = 67
theorem rdI.tm (h : rdI u R x b a g n) (k : jGw u w X Y (tmA u)) : rdI w R x b a g n := by
  have hx := h.row
  obtain ⟨⟨h1, h2, h3⟩, h4, h5, h6, h7, ⟨h8, h9, h10, h11⟩, h12, h13, ⟨l, hl⟩, h15, h16⟩ := h
  have nR : ¬ tmA u R := fun z => by unfold tmA at z; omega
  have na : ¬ tmA u a := fun z => by unfold tmA at z; omega
  obtain ⟨p1, p2⟩ := hl.keep k (fun z => by have := hl.1.2.2; unfold tmA at z; omega) (fun z => by have := hl.2.2.2.1.2.2; unfold tmA at z; omega)
  have := k.1.1
  exact ⟨⟨h1, by omega, by rw [k.K h2]; exact h3⟩, by rw [k.2.2 _ _ _ h2 nR]; exact h4, by rw [k.2.2 _ _ _ h2 nR]; exact h5, by rw [k.2.2 _ _ _ h2 nR]; exact h6, by rw [k.2.2 _ _ _ h2 nR]; exact h7, ⟨h8, by omega, by rw [k.K h9]; exact h10, by rw [k.N h9]; exact h11⟩, fun j j0 j1 => by rw [k.2.2 _ _ _ h9 na]; exact h12 j j0 j1, h13, ⟨l, p1⟩, by rw [p2]; exact h15, h16.keep k fun a z => by unfold tmA at z; omega⟩
theorem rStr.tm (h : rStr u y l x) (k : jGw u w X Y (tmA u)) (hx : x < jn u) (hx' : jK u x = 8) : rStr w y l x := by
  obtain ⟨h1, h2, ⟨h3, h4⟩, h5⟩ := h
  have ny : ¬ tmA u y := fun z => by unfold tmA at z; omega
  have nb : ¬ tmA u (jF u y 0) := fun z => by unfold tmA at z; have q := h1.2.2.1.2.2; omega
  have hp := h1.keep k ny nb
  have hF : ∀ j, jF w y j = jF u y j := fun j => k.F h1.1.2.1 ny j
  exact ⟨hp.1, by rw [k.K h1.1.2.1]; exact h2, ⟨by rw [hF]; exact h3, by rw [hF]; exact h4⟩, by rw [hF, k.2.2 8 x 0 hx (fun z => by unfold tmA at z; omega)]; exact h5⟩
theorem bkI.tm (h : bkI u b) (k : jGw u w X Y (tmA u)) : bkI w b := by
  obtain ⟨⟨h1, h2, h3⟩, ⟨f0, f1, f2, f3, f4⟩, ⟨a1, a2⟩, ⟨b1, b2⟩, ⟨c1, c2⟩, ⟨d1, d2⟩, e1, e2⟩ := h
  have F : ∀ j, jf w 16 b j = jf u 16 b j := fun j => k.2.2 _ _ _ (by omega) (fun z => by unfold tmA at z; omega)
  have := k.1.1
  exact ⟨⟨h1, by omega, by rw [k.K (by omega)]; exact h3⟩, ⟨by rw [F]; exact f0, by rw [F]; exact f1, by rw [F]; exact f2, by rw [F]; exact f3, by rw [F]; exact f4⟩, ⟨by rw [k.K (by omega)]; exact a1, by rw [k.N (by omega)]; exact a2⟩, ⟨by rw [k.K (by omega)]; exact b1, by rw [k.N (by omega)]; exact b2⟩, ⟨by rw [k.K (by omega)]; exact c1, by rw [k.N (by omega)]; exact c2⟩, ⟨by rw [k.K (by omega)]; exact d1, by rw [k.N (by omega)]; exact d2⟩, by rw [k.K (by omega)]; exact e1, by rw [k.N (by omega)]; exact e2⟩
theorem nmC.tm (h : nmC u b x NL) (B : bkI u b) (k : jGw u w X Y (tmA u)) (hx : x < jn u) (hx' : jK u x = 8) : nmC w b x NL := by
  have hb := B.1
  have h5 := B.2.2.2.2.2.2.1
  exact ⟨by rw [k.2.2 16 b 8 (by omega) (fun z => by unfold tmA at z; omega)]; exact h.1, h.2.1, fun i hi => by
    rw [k.2.2 1026 (b + 5) i (by omega) (fun z => by unfold tmA at z; omega)]
    exact ⟨(h.2.2 i hi).1.tm k hx hx', (h.2.2 i hi).2⟩⟩
theorem lkS.tm (h : lkS u R x g n W) (I : rdI u R x b a g n) (k : jGw u w X Y (tmA u)) : lkS w R x g n W := by
  obtain ⟨⟨h1, h2, h3, h4, h5⟩, h6, h7, h8, h9⟩ := h
  have hr := I.1
  have hx := I.row
  have F : ∀ j, jf w 53 R j = jf u 53 R j := fun j => k.2.2 53 R j hr.2.1 (fun z => by unfold tmA at z; omega)
  exact ⟨⟨by rw [F]; exact h1, by rw [F]; exact h2, fun z => ⟨by rw [F]; exact (h3 z).1.tm k (by omega) (by omega), by rw [F]; exact (h3 z).2⟩, fun z => by rw [F]; exact (h4 z).tm k (by omega) (by omega), fun z => by rw [F]; exact h5 z⟩, by rw [F]; exact h6, by rw [F]; exact h7, by rw [F]; exact h8, h9⟩
theorem cR.tm (h : cR u R x b a g n st) (k : jGw u w X Y (tmA u)) : cR w R x b a g n st ∧ jf w 53 R 4 = jf u 53 R 4 := by
  obtain ⟨I, B, p0, tk, N, c14, c15, cb⟩ := h
  have hr := I.1
  have hx := I.row
  have F : ∀ j, jf w 53 R j = jf u 53 R j := fun j => k.2.2 53 R j hr.2.1 (fun z => by unfold tmA at z; omega)
  exact ⟨⟨I.tm k, B.tm k, p0, by
    rcases tk with ⟨t1, t2⟩ | t
    · exact .inl ⟨by rw [F]; exact t1, by rw [F]; exact t2⟩
    · exact .inr (t.tm I k), N.tm B k (by omega) (by omega), by rw [F]; exact c14, by rw [F]; exact c15, cb⟩, F 4⟩
/-- from place p to p' -/
def cSt (u w : jS) (R x b : Int) (g : Int → Int) (n p p' : Int) : Prop := kpE u w R x b (20 * (p' - p) + (lkc w R (wd g n p') - lkc u R (wd g n p))) (2700 * (p' - p) + (lkq w R (wd g n p') - lkq u R (wd g n p)))
def cFl (u : jS) (R x b : Int) (g : Int → Int) (n p f pl : Int) (q : jS × Bool × Int) : Prop := rFl R f pl q ∧ jGw u q.1 (20 * (n - p) + 1 - lkc u R (wd g n p)) (2700 * (n - p) + 6 - lkq u R (wd g n p)) fun y => rdA u R x y ∨ y = b ∨ y = b + 5
def cRm (u : jS) (R : Int) (g : Int → Int) (n p : Int) : Prop := 0 ≤ jn u ∧ jBd u (20 * (n - p) + 2100 - lkc u R (wd g n p)) (2700 * (n - p) + 900100 - lkq u R (wd g n p))
theorem cSt.trans (h : cSt u w R x b g n p p') (k : cSt w v' R x b g n p' q) : cSt u v' R x b g n p q := (kpE.trans h k).mono (by omega) (by omega)
theorem cRm.after (h : cRm u R g n p) (k : cSt u w R x b g n p p') : cRm w R g n p' := by
  obtain ⟨h0, h1, h2⟩ := h
  obtain ⟨⟨k1, k2, k3, k4, k5, k6⟩, -⟩ := k
  exact ⟨by omega, by rw [k4]; omega, by rw [k5]; omega⟩
theorem cFl.after (k : cFl w R x b g n p' f pl qq) (h : cSt u w R x b g n p p') : cFl u R x b g n p f pl qq := by
  obtain ⟨k1, k2⟩ := k
  refine ⟨k1, ((kpE.gw h).trans k2 fun y hy z => ?_).mono (by omega) (by omega) fun y _ z => z⟩
  rcases z with z | z | z
  · exact z
  · rcases z with z | z | z
    · exact .inl (.inl z)
    · exact .inl (.inr (.inl z))
    · rcases h.2.2.2.1 with e | e
      · exact .inl (.inr (.inr (by rw [← e]; exact z)))
      · omega
  · exact .inr z
theorem cR.lk (h : cR u R x b a g n st) : (0 ≤ lkc u R (wd g n st.1) ∧ lkc u R (wd g n st.1) ≤ 3 * (n - st.1)) ∧ 0 ≤ lkq u R (wd g n st.1) ∧ lkq u R (wd g n st.1) ≤ 2600 * (n - st.1) := by
  obtain ⟨I, B, ⟨p0, p1⟩, tk, -⟩ := h
  have hw := wd_in I.2.2.2.2.2.2.2.1.1 p0 p1
  unfold lkc lkq
  rcases tk with ⟨t1, -⟩ | t
  · rw [if_neg (by omega), if_neg (by omega)]; omega
  · have := hw.2.2.2.1 t.2.2.2.2
    rw [if_pos t.2.1, if_pos t.2.1]; omega
theorem cRm.bd (h : cR u R x b a g n st) (m : cRm u R g n st.1) : 0 ≤ jn u ∧ jBd u 2050 900050 := by
  have l := h.lk
  have p1 := h.2.2.1.2
  obtain ⟨m0, m1, m2⟩ := m
  exact ⟨m0, by omega, by omega⟩
theorem kpE.bd (h : 0 ≤ jn u ∧ jBd u P Q) (k : kpE u w R x b X Y) (hp : X + X' ≤ P) (hq : Y + Y' ≤ Q) : 0 ≤ jn w ∧ jBd w X' Y' := by
  obtain ⟨m0, m1, m2⟩ := h
  obtain ⟨⟨k1, k2, k3, k4, k5, k6⟩, -⟩ := k
  exact ⟨by omega, by rw [k4]; omega, by rw [k5]; omega⟩
/-- a word is looked at -/
theorem cL_look (h : cR u R x b a g n st) (m : cRm u R g n st.1) : jE (m_X44_look u R) fun q =>
    ((wd g n st.1).1 = 6 ∧ q.2.1 = true ∧ cFl u R x b g n st.1 (wd g n st.1).2.1 (wd g n st.1).2.2.1 q) ∨
    (¬ (wd g n st.1).1 = 6 ∧ q.2 = (false, 0) ∧ cR q.1 R x b a g n st ∧ lkS q.1 R x g n (wd g n st.1) ∧ cSt u q.1 R x b g n st.1 st.1 ∧ cRm q.1 R g n st.1) := by
  have mb := cRm.bd h m
  have hw := wd_in h.1.2.2.2.2.2.2.2.1.1 h.2.2.1.1 h.2.2.1.2
  refine jE_mono (x_lookR h ⟨mb.1, mb.2.le (by omega) (by omega)⟩) fun q hq => ?_
  rcases hq with ⟨h1, h2, h3⟩ | ⟨h1, h2, h3, h4, h5⟩
  · refine .inl ⟨h1, h2.1, h2, h3.mono ?_ ?_ fun y _ z => .inl z⟩
    · unfold lkc
      rcases h.2.2.2.1 with t | t
      · rw [if_neg (by omega)]; omega
      · exact absurd h1 t.2.2.2.2
    · unfold lkq
      rcases h.2.2.2.1 with t | t
      · rw [if_neg (by omega)]; omega
      · exact absurd h1 t.2.2.2.2
  · have hs : cSt u q.1 R x b g n st.1 st.1 := h5.mono (by omega) (by omega)
    exact .inr ⟨h1, h2, h3, h4, hs, m.after hs⟩
/-- a fault at the word that is looked at -/
theorem cFl.thr (h : cR u R x b a g n st) : cFl u R x b g n st.1 f pl (rWr u R f pl, true, jn u) := by
  have l := h.lk
  have p1 := h.2.2.1.2
  exact ⟨rWr.fl (by have := h.1.1; omega), rWr.gw.mono (by omega) (by omega) fun y _ z => .inl (.inl z)⟩
theorem cSt.tk (h : cR u R x b a g n st) (lk : lkS u R x g n (wd g n st.1)) (hz : ¬ (wd g n st.1).1 = 0) (k : kpE u w R x b X Y) (h4 : jf w 53 R 4 = 0) (hX : X ≤ 17) (hY : Y ≤ 100) : cSt u w R x b g n st.1 (wd g n st.1).2.2.2 := by
  have hw := wd_in h.1.2.2.2.2.2.2.2.1.1 h.2.2.1.1 h.2.2.1.2
  have h6 := hw.2.2.2.1 lk.2.2.2.2
  refine kpE.mono k ?_ ?_
  · unfold lkc; rw [if_neg (by omega), if_pos lk.2.1]; omega
  · unfold lkq; rw [if_neg (by omega), if_pos lk.2.1]; omega
theorem cSt.then (h : cSt u w R x b g n p p') (k : jGw w v' 0 0 fun z => jn u ≤ z) (hR : R < jn u) (hx : x < jn u) : cSt u v' R x b g n p p' := by
  have e : jf v' 53 R 4 = jf w 53 R 4 := k.2.2 _ _ _ (by have := h.1.1; omega) (by omega)
  have e1 : ∀ W, lkc v' R W = lkc w R W := fun W => by unfold lkc; rw [e]
  have e2 : ∀ W, lkq v' R W = lkq w R W := fun W => by unfold lkq; rw [e]
  unfold cSt
  rw [e1, e2]
  exact (kpE.then h k hR hx).mono (by omega) (by omega)
theorem cSt.refl : cSt u u R x b g n p p := kpE.rfl.mono (by omega) (by omega)
end jCexpr3
