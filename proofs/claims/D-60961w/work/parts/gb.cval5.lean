/-! the component's values: put together -/
section jCval5
variable {s t u u0 w v' : jS} {R x b a a' n p p' p0 q r k c f v y e d o z K S X Y X' Y' P Q pl lo lo' ln y0 eX eY f0 f1 f2 : Int} {g fl : Int → Int} {l m : List Int} {NL : List (List Int)} {W : wR4} {st st' : pS} {I I' L L1 L2 : pI} {A : Int → Prop} {OL : List pvO} {SL : List pvS} {qq : jS × Bool × Int}
/-- an operand's count begins -/
theorem vS.c15 (h : vS u0 u R x b a S y0 g n p0 eX eY st I) (lk : lkS u R x g n (wd g n st.1)) : vS u0 (jp u 53 R 15 (jf u 53 R 14)) R x b a S y0 g n p0 eX eY (st.1, st.2.1, st.2.2.1, 0) I ∧ lkS (jp u 53 R 15 (jf u 53 R 14)) R x g n (wd g n st.1) ∧ ∀ j, jf (jp u 53 R 15 (jf u 53 R 14)) 63 y0 j = jf u 63 y0 j := by
  obtain ⟨⟨I0, B, ⟨q0, q1⟩, tk, N, c14, c15, cb⟩, h1, h2, h3, ⟨y1, y2, y3⟩, h5⟩ := h
  have K : rSl u (jp u 53 R 15 (jf u 53 R 14)) R (fun k => k = 15) := rSl.rfl.jp rfl
  have lk' := lk.sl I0 K fun j z => .inr (.inl z)
  have I1 := I0.sl K (by omega)
  have hr := I0.1.2.2
  have hx := I0.row
  have nR : ∀ z, ¬ jK u z = 53 → ¬ z = R := fun z hz q => by rw [q] at hz; omega
  have cF1 : cF u (jp u 53 R 15 (jf u 53 R 14)) R x b S 0 0 := ⟨⟨by show jn u ≤ jn u; omega, by show jn u ≤ jn u + 0; omega, by show ju u ≤ ju u + 0; omega, rfl, rfl, rfl⟩, fun y _ => ⟨rfl, rfl⟩, fun c y k _ z _ _ => K.2 _ _ _ (by omega), .inl (K.2 _ _ _ (by omega)), fun k hk => K.2 _ _ _ (by omega)⟩
  have e1 : ∀ W, lkc (jp u 53 R 15 (jf u 53 R 14)) R W = lkc u R W := fun W => by unfold lkc; rw [K.2 _ _ _ (by omega)]
  have e2 : ∀ W, lkq (jp u 53 R 15 (jf u 53 R 14)) R W = lkq u R W := fun W => by unfold lkq; rw [K.2 _ _ _ (by omega)]
  obtain ⟨m5, m7⟩ := sm_gw (b := b) (K.gw) (by have := B.lt; omega) (fun z q => by
    obtain ⟨⟨e1, e2, e3⟩, -, ⟨a1, a2⟩, ⟨b1, b2⟩, ⟨c1, c2⟩, ⟨d1, d2⟩, f1, f2⟩ := B
    intro zz
    have : z = b ∨ z = b + 1 ∨ z = b + 2 ∨ z = b + 3 ∨ z = b + 4 ∨ z = b + 5 := by omega
    rcases this with q' | q' | q' | q' | q' | q' <;> rw [q] at q' <;> rw [q'] at hr <;> omega)
  have kd : kpE u (jp u 53 R 15 (jf u 53 R 14)) R x b 0 0 → True := fun _ => trivial
  have Bw : bkI (jp u 53 R 15 (jf u 53 R 14)) b := by
    obtain ⟨⟨e1, e2, e3⟩, ⟨g0, g1, g2, g3, g4⟩, r⟩ := B
    exact ⟨⟨e1, e2, e3⟩, ⟨by rw [K.2 _ _ _ (by omega)]; exact g0, by rw [K.2 _ _ _ (by omega)]; exact g1, by rw [K.2 _ _ _ (by omega)]; exact g2, by rw [K.2 _ _ _ (by omega)]; exact g3, by rw [K.2 _ _ _ (by omega)]; exact g4⟩, r⟩
  have Nw : nmC (jp u 53 R 15 (jf u 53 R 14)) b x st.2.1 := by
    refine ⟨by rw [K.2 _ _ _ (by omega)]; exact N.1, N.2.1, fun i hi => ?_⟩
    rw [K.2 _ _ _ (by omega)]
    obtain ⟨⟨t1, t2, ⟨t3, t4⟩, t5⟩, h9⟩ := N.2.2 i hi
    have nyR := nR _ (show ¬ jK u (jf u 1026 (b + 5) i) = 53 by omega)
    have nbR : ¬ jF u (jf u 1026 (b + 5) i) 0 = R := fun q => by have q' := t1.2.2.1.2.2; rw [q] at q'; omega
    have hp := t1.keep K.gw (fun q => nyR q) (fun q => nbR q)
    have hF : ∀ j, jF (jp u 53 R 15 (jf u 53 R 14)) (jf u 1026 (b + 5) i) j = jF u (jf u 1026 (b + 5) i) j := fun j => K.gw.F t1.1.2.1 (fun q => nyR q) j
    exact ⟨⟨hp.1, t2, ⟨by rw [hF]; exact t3, by rw [hF]; exact t4⟩, by rw [hF, K.2 8 x 0 (by omega)]; exact t5⟩, h9⟩
  refine ⟨⟨⟨I1, Bw, ⟨q0, q1⟩, .inr lk', Nw, by rw [K.2 _ _ _ (by omega)]; exact c14, ?_, ⟨by show (0 : Int) ≤ 0; omega, by show (0 : Int) ≤ st.2.2.1; omega, cb.2.2⟩⟩, ?_, h2.trans m5, h3.sm m7, ⟨y1, y2, y3⟩, h5⟩, lk', fun j => K.2 _ _ _ (by omega)⟩
  · rw [jf_pos ⟨rfl, rfl, rfl⟩, c14]; show st.2.2.1 = st.2.2.1 - 0; omega
  · rw [e1, e2]
    exact (h1.trans cF1).mono (Int.le_of_eq (Int.add_zero _)) (Int.le_of_eq (Int.add_zero _))
/-- the heap grows by what the reader doesn't see -/
theorem vS.new (h : vS u0 u R x b a S y0 g n p0 eX eY st I) (V : vX u0 R x b S g n p0) (k : jGw u w X Y fun _ => False) (C : cR w R x b a g n st) : vS u0 w R x b a S y0 g n p0 (eX + X) (eY + Y) st I ∧ (∀ j, jf w 63 y0 j = jf u 63 y0 j) ∧ ∀ j, jf w 53 R j = jf u 53 R j := by
  obtain ⟨C0, h1, h2, h3, ⟨y1, y2, y3⟩, h5⟩ := h
  have V1 := V.1
  have hr := C0.1.1
  have nn := h1.1
  have F : ∀ j, jf w 53 R j = jf u 53 R j := fun j => k.2.2 _ _ _ hr.2.1 fun z => z
  have e1 : ∀ W, lkc w R W = lkc u R W := fun W => by unfold lkc; rw [F 4]
  have e2 : ∀ W, lkq w R W = lkq u R W := fun W => by unfold lkq; rw [F 4]
  obtain ⟨m5, m7⟩ := sm_gw (b := b) k (by omega) (fun z q => q.elim)
  refine ⟨⟨C, ?_, h2.trans m5, h3.sm m7, ⟨y1, by have := k.1.1; omega, by rw [k.K y2]; exact y3⟩, h5⟩, fun j => k.2.2 _ _ _ y2 fun z => z, F⟩
  rw [e1, e2]
  exact (h1.then (k.mono (Int.le_refl _) (Int.le_refl _) fun z _ q => q.elim) V1.1 V1.2.1 ⟨V.2.1.1, V.2.1.2.1⟩).mono (by omega) (by omega)
def vOut (u0 : jS) (R x b a S y0 : Int) (g : Int → Int) (n p0 eX eY : Int) (I : pI) (fl : Int → Int) (pr : vR) (q : jS × Bool × Int) : Prop := match pr with
  | .inl e => cFm u0 R x b S g n p0 e.1 e.2 q
  | .inr z => q.2.1 = false ∧ (∃ hh, vS u0 q.1 R x b a S y0 g n p0 eX eY (z.1.1, z.1.2.1, z.1.2.2, hh) (I ++ z.2.1)) ∧ opG q.1 y0 z.2.2.1 z.2.2.2.1 z.2.2.2.2 fl ∧ jf q.1 63 y0 4 = z.2.1.length
theorem vOut.mono {pr : vR} (h : vOut u0 R x b a S y0 g n p0 eX eY I fl pr qq) {eX' eY' : Int} (hX : eX ≤ eX') (hY : eY ≤ eY') : vOut u0 R x b a S y0 g n p0 eX' eY' I fl pr qq := by
  cases pr with
  | inl e => exact h
  | inr z =>
    obtain ⟨a1, ⟨hh, a2⟩, a3⟩ := h
    exact ⟨a1, ⟨hh, a2.mono hX hY⟩, a3⟩
/-- a value with its term in the slot -/
theorem x_tailW {z : qS × pI} (h : vS u0 u R x b a S y0 g n p0 eX eY st I) (V : vX u0 R x b S g n p0) (hX : eX ≤ 5) (hY : eY ≤ 50) (G : opG u y0 0 (-1) f2 fl) (h3 : fl 3 = I.length) (T : layT lo u L.length (jf u 63 y0 6) L) (hlo : b + 5 < lo) (hy : y0 < lo) (hl : I.length + L.length ≤ 2000) (hL : L.length ≤ 71) (hz : z = ((st.1, st.2.1, st.2.2.1), L)) : jE (u_X44_valued_114 u R y0) (vOut u0 R x b a S y0 g n p0 eX eY I fl (pvTail g n z.1 z.2 f2)) := by
  subst hz
  refine jE_mono (x_tailV h V hX hY G h3 rfl T hlo hy hl hL) fun q hq => ?_
  show vOut u0 R x b a S y0 g n p0 eX eY I fl (pvTail g n (st.1, st.2.1, st.2.2.1) L f2) q
  cases hT : pvTail g n (st.1, st.2.1, st.2.2.1) L f2 with
  | inl e => rw [hT] at hq; exact hq
  | inr z =>
    rw [hT] at hq
    exact ⟨hq.1, ⟨_, hq.2.1⟩, hq.2.2⟩
theorem x_valued (h : vS u0 u R x b a S y0 g n p0 eX eY st I) (V : vX u0 R x b S g n p0) (hX : eX ≤ 4) (hY : eY ≤ 48) (lk : lkS u R x g n (wd g n st.1)) (G : opG u y0 0 (-1) 0 fl) (h3 : fl 3 = I.length) (hI : (I.length : Int) ≤ st.2.2.1) : jE (m_X44_valued u R y0) (vOut u0 R x b a S y0 g n p0 (eX + 1) (eY + 2) I fl (pvVal g n (st.1, st.2.1, st.2.2.1))) := by
  have hbg := h.1.1.2.2.2.2.2.2.2.1.1
  have hp0 := h.1.2.2.1.1
  have hp1 := h.1.2.2.1.2
  have hc := h.1.2.2.2.2.2.2.2.2.2
  have nb := V.1.2.2
  have c6 : ¬ (wd g n st.1).1 = 6 := lk.2.2.2.2
  have okV : ∀ v, pvVal g n (st.1, st.2.1, st.2.2.1) = .inr v → v.1.2.2 = st.2.2.1 + v.2.1.length ∧ v.2.1.length ≤ 60 ∧ v.1.2.2 ≤ 2000 := fun v hv => by
    have := pvVal_ok (q := (st.1, st.2.1, st.2.2.1)) hbg hp0 hp1 hc hv
    exact this.2.2
  rw [em_X44_valued]; unfold dm_X44_valued
  simp only [jls]
  obtain ⟨v1, lk1, F1⟩ := h.c15 lk
  have G1 := G.same F1
  generalize jp u 53 R 15 (jf u 53 R 14) = w1 at *
  refine jE_bind.mpr (jE_mono (x_sees v1.1 (v1.rm V (by omega) (by omega))) fun q hq => ?_)
  simp only [if_neg c6] at hq
  obtain ⟨q1, C2, lk2, S2⟩ := hq
  obtain ⟨v2, F2⟩ := v1.step V (st' := (st.1, st.2.1, st.2.2.1, 0)) S2 C2 (Int.le_refl _)
  have G2 := G1.same F2
  rw [q1]
  by_cases c37 : (wd g n st.1).1 = 5 ∧ (wd g n st.1).2.1 = 37
  · rw [if_pos c37]
    show jE (jth false _ _) _
    rw [jth_ff, if_neg (by decide)]
    obtain ⟨w3, t3, v3, F3, R3, T3⟩ := v2.take V lk2 (by show ¬ (wd g n st.1).1 = 0; omega)
    rw [t3, Option.bind_some]
    refine jE_bind.mpr (jE_mono (x_markedV v3 V (by omega) (by omega) rfl (G2.same F3)) fun q4 hq4 => ?_)
    have eV : pvVal g n (st.1, st.2.1, st.2.2.1) = match pvMarked g n ((wd g n st.1).2.2.2, st.2.1, st.2.2.1) with | .inl e => .inl e | .inr z => pvTail g n z.1 z.2.1 z.2.2 := by
      unfold pvVal; rw [if_pos c37]; rfl
    have okM := fun z => pvMarked_ok (q := ((wd g n st.1).2.2.2, st.2.1, st.2.2.1)) (z := z) hbg (by have := v3.1.2.2.1.1; exact this) (by have := v3.1.2.2.1.2; exact this)
    rw [eV]
    have e0 : ((((wd g n st.1).2.2.2, st.2.1, st.2.2.1, (0 : Int)) : pS).1, (((wd g n st.1).2.2.2, st.2.1, st.2.2.1, (0 : Int)) : pS).2.1, (((wd g n st.1).2.2.2, st.2.1, st.2.2.1, (0 : Int)) : pS).2.2.1) = ((wd g n st.1).2.2.2, st.2.1, st.2.2.1) := rfl
    rw [e0] at hq4
    cases hM : pvMarked g n ((wd g n st.1).2.2.2, st.2.1, st.2.2.1) with
    | inl e =>
      rw [hM] at hq4
      rw [show q4.2.1 = true from hq4.1]
      exact jS_end (cFm.flt (z := e) hq4)
    | inr z =>
      rw [hM] at hq4
      obtain ⟨r1, hh, lo, v4, G4, T4, l1, l2⟩ := hq4
      obtain ⟨o1, o2, o3, o4, o5⟩ := okM z hM
      have o3' : z.1.2.2 = st.2.2.1 + z.2.1.length := o3
      have o5' : z.1.2.2 ≤ 2000 := o5 hc
      rw [r1]
      refine jE_mono (x_tailW (z := (z.1, z.2.1)) v4 V (by omega) (by omega) G4 h3 T4 l1 l2 (by omega) (by omega) rfl) fun q5 hq5 => hq5.mono (by omega) (by omega)
  rw [if_neg c37]
  show jE (jth false _ _) _
  rw [jth_ff, if_pos rfl]
  refine jE_bind.mpr (jE_mono (x_sees C2 (v2.rm V (by omega) (by omega))) fun q3 hq3 => ?_)
  simp only [if_neg c6] at hq3
  obtain ⟨r3, C3, lk3, S3⟩ := hq3
  obtain ⟨v3, F3⟩ := v2.step V (st' := (st.1, st.2.1, st.2.2.1, 0)) S3 C3 (Int.le_refl _)
  have G3 := G2.same F3
  rw [r3]
  by_cases c40 : (wd g n st.1).1 = 5 ∧ (wd g n st.1).2.1 = 40
  rotate_left
  · -- a sum
    rw [if_neg c40]
    show jE (jth false _ _) _
    rw [jth_ff, if_pos rfl]
    have eV : pvVal g n (st.1, st.2.1, st.2.2.1) = match pvSum g n (st.1, st.2.1, st.2.2.1) with | .inl e => .inl e | .inr z => pvTail g n z.1 z.2 0 := by
      unfold pvVal; rw [if_neg c37, if_neg (fun z => c40 z.1)]; rfl
    have h5 := v3.2.2.2.2.1
    have nn : jn u0 ≤ jn q3.1 := v3.2.1.1.1
    rw [eV]
    refine jE_bind.mpr (jE_mono (x_sumV v3 V (by omega) (by omega) rfl) fun q4 hq4 => ?_)
    have okS := fun z => pvSum_ok (q := (st.1, st.2.1, st.2.2.1)) (z := z) hbg hp0 hp1
    have e0 : (((st.1, st.2.1, st.2.2.1, (0 : Int)) : pS).1, ((st.1, st.2.1, st.2.2.1, (0 : Int)) : pS).2.1, ((st.1, st.2.1, st.2.2.1, (0 : Int)) : pS).2.2.1) = (st.1, st.2.1, st.2.2.1) := rfl
    rw [e0] at hq4
    cases hS : pvSum g n (st.1, st.2.1, st.2.2.1) with
    | inl e =>
      rw [hS] at hq4
      rw [show q4.2.1 = true from hq4.1]
      exact jS_end (cFm.flt (z := e) hq4)
    | inr z =>
      rw [hS] at hq4
      obtain ⟨r1, ⟨hh, v4⟩, T4, F4⟩ := hq4
      obtain ⟨o1, o2, o3, o4, o5⟩ := okS z hS
      have o3' : z.1.2.2 = st.2.2.1 + z.2.length := o3
      have o5' : z.1.2.2 ≤ 2000 := o5 hc
      rw [r1]
      obtain ⟨s5, v5, R5, T5⟩ := v4.slot V 6 q4.2.2 (lo := jn q3.1) h5.2.1
      show jE ((jwr q4.1 63 y0 6 q4.2.2).bind _) _
      rw [s5, Option.bind_some]
      refine jE_mono (x_tailW (z := z) (L := z.2) (lo := jn q3.1) v5 V (by omega) (by omega) ((G3.same F4).slot (.inr rfl)) h3 (by rw [jf_pos ⟨rfl, rfl, rfl⟩]; exact T5 _ _ _ T4) (by omega) h5.2.1 (by omega) (by omega) rfl) fun q5 hq5 => hq5.mono (by omega) (by omega)
  rw [if_pos c40]
  show jE (jth false _ _) _
  rw [jth_ff, if_neg (by decide)]
  obtain ⟨w4, t4, v4, F4, R4, T4⟩ := v3.take V lk3 (by show ¬ (wd g n st.1).1 = 0; omega)
  have G4 := G3.same F4
  rw [t4, Option.bind_some]
  refine jE_bind.mpr (jE_mono (cL_look v4.1 (v4.rm V (by omega) (by omega))) fun q5 hq5 => ?_)
  have n1 : (wd g n (((wd g n st.1).2.2.2, st.2.1, st.2.2.1, (0 : Int)) : pS).1) = wd g n (wd g n st.1).2.2.2 := rfl
  rcases hq5 with ⟨h1, h2, h3'⟩ | ⟨h1, h2, C5, lk5, S5, M5⟩
  · rw [h2, pvVal_br6 (q := (st.1, st.2.1, st.2.2.1)) c40 h1]
    exact jS_end (cFm.flt (z := ((wd g n (wd g n st.1).2.2.2).2.1, (wd g n (wd g n st.1).2.2.2).2.2.1)) (v4.fault (by omega) (by omega) h3' h2))
  rw [h2]
  have h1' : ¬ (wd g n (wd g n st.1).2.2.2).1 = 6 := h1
  obtain ⟨v5, F5⟩ := v4.step V (st' := ((wd g n st.1).2.2.2, st.2.1, st.2.2.1, 0)) S5 C5 (Int.le_refl _)
  have G5 := G4.same F5
  have k5 : jf q5.1 53 R 5 = kdO (wd g n (wd g n st.1).2.2.2).1 := lk5.1.1
  have e5 : jf q5.1 53 R 5 = 1 ↔ (wd g n (wd g n st.1).2.2.2).1 = 1 ∨ (wd g n (wd g n st.1).2.2.2).1 = 7 := by rw [k5]; unfold kdO; split <;> omega
  have e93 : pvReg g (wd g n (wd g n st.1).2.2.2) = -1 → jE (u_X44_valued_93 q5.1 R y0) (vOut u0 R x b a S y0 g n p0 (eX + 1) (eY + 2) I fl (pvVal g n (st.1, st.2.1, st.2.2.1))) := fun hr => by
    refine jE_mono (x_v93 (p := st.1) v5 V (by omega) (by omega) G5 h3 hI rfl hp1 hp0 hc c40 rfl hr) fun q6 hq6 => ?_
    refine vOut.mono (eX := eX) (eY := eY) ?_ (by omega) (by omega)
    show vOut u0 R x b a S y0 g n p0 eX eY I fl (pvVal g n (st.1, st.2.1, st.2.2.1)) q6
    exact hq6
  show jE (if jf q5.1 53 R 5 = 1 then _ else _) _
  by_cases ck : (wd g n (wd g n st.1).2.2.2).1 = 1 ∨ (wd g n (wd g n st.1).2.2.2).1 = 7
  rotate_left
  · rw [if_neg (fun z => ck (e5.mp z))]
    exact e93 (by unfold pvReg; rw [if_neg ck])
  have rg : pvReg g (wd g n (wd g n st.1).2.2.2) = rgO (nmO g (wd g n (wd g n st.1).2.2.2).2.2.1 (wd g n (wd g n st.1).2.2.2).2.2.2) := by unfold pvReg; rw [if_pos ck]
  rw [if_pos (e5.mpr ck), (lk5.1.2.2.1 ck).2]
  show jE (if rgO (nmO g (wd g n (wd g n st.1).2.2.2).2.2.1 (wd g n (wd g n st.1).2.2.2).2.2.2) = -1 then _ else _) _
  rw [← rg]
  by_cases cr : pvReg g (wd g n (wd g n st.1).2.2.2) = -1
  · rw [if_pos cr]; exact e93 cr
  rw [if_neg cr]
  have eV : pvVal g n (st.1, st.2.1, st.2.2.1) = if st.2.2.1 = 2000 then .inl (8, (wd g n st.1).2.2.1) else match pvBased g n (wd g n st.1).2.2.2 with | .inl e => .inl e | .inr z => .inr ((z.2, st.2.1, st.2.2.1 + 1), [(0, 0)], 2, z.1, 0) := by
    unfold pvVal; rw [if_neg c37, if_pos ⟨c40, cr⟩]; rfl
  have bd5 := cRm.bd C5 M5
  rw [eV, x_count C5 ⟨bd5.1, bd5.2.le (by omega) (by omega)⟩, lk3.2.2.1]
  by_cases c2000 : st.2.2.1 = 2000
  · rw [if_pos c2000, if_pos (.inl c2000)]
    exact jS_end (v5.fault (by omega) (by omega) (cFl.thr C5) rfl)
  rw [if_neg c2000, if_neg (show ¬ ((((wd g n st.1).2.2.2, st.2.1, st.2.2.1, (0 : Int)) : pS).2.2.1 = 2000 ∨ (((wd g n st.1).2.2.2, st.2.1, st.2.2.1, (0 : Int)) : pS).2.2.2 = 60) from fun z => by rcases z with z | z; exact c2000 z; exact absurd (show (0 : Int) = 60 from z) (by decide)), Option.bind_some]
  obtain ⟨C6, lk6, k6⟩ := C5.cnt lk5 c2000
  obtain ⟨v6, F6⟩ := v5.stepK V k6 C6 rfl (jf_neg (by omega))
  show jE ((jnw (jp q5.1 53 R 14 (st.2.2.1 + 1)) 66 2 (jdf 66)).bind _) _
  have F6' := F6
  have bd6 : 0 ≤ jn (jp q5.1 53 R 14 (st.2.2.1 + 1)) ∧ jBd (jp q5.1 53 R 14 (st.2.2.1 + 1)) 1 2 := ⟨bd5.1, bd5.2.le (by omega) (by omega)⟩
  have G6 := G5.same F6
  have hj6 : jn (jp q5.1 53 R 14 (st.2.2.1 + 1)) = jn q5.1 := rfl
  obtain ⟨w7, l1, l2, l3, l4, l5⟩ := x_leaf (o := 0) (y := 0) C6 bd6
  obtain ⟨v7, F7, R7⟩ := v6.new V l4 l2
  have G7 := G6.same F7
  have h5' := v5.2.2.2.2.1
  have h7 := v7.2.2.2.2.1
  have l1' : ∃ q9, jnw (jp q5.1 53 R 14 (st.2.2.1 + 1)) 66 2 (jdf 66) = some q9 ∧ ∃ q10, jck0 q9.2 (m_X49_init q9.1 q9.2 0 0) = some q10 ∧ q10.1 = w7 ∧ q9.2 = jn q5.1 := by
    cases hh1 : jnw (jp q5.1 53 R 14 (st.2.2.1 + 1)) 66 2 (jdf 66) with
    | none => rw [show ((((wd g n st.1).2.2.2, st.2.1, st.2.2.1, (0 : Int)) : pS).2.2.1) = st.2.2.1 from rfl, hh1] at l1; exact absurd l1 (by simp)
    | some q9 =>
      rw [show ((((wd g n st.1).2.2.2, st.2.1, st.2.2.1, (0 : Int)) : pS).2.2.1) = st.2.2.1 from rfl, hh1, Option.bind_some] at l1
      cases hh2 : jck0 q9.2 (m_X49_init q9.1 q9.2 0 0) with
      | none => rw [hh2] at l1; exact absurd l1 (by simp)
      | some q10 =>
        rw [hh2, Option.bind_some] at l1
        have e := Option.some.inj l1
        exact ⟨q9, rfl, q10, hh2, congrArg Prod.fst e, (congrArg (fun z => z.2.2) e).trans hj6⟩
  obtain ⟨q9, m1, q10, m2, m3, m4⟩ := l1'
  rw [m1, Option.bind_some, m2, Option.bind_some, m3, m4]
  obtain ⟨s8, v8, R8, T8⟩ := v7.slot V 6 (jn q5.1) (lo := jn q5.1) h5'.2.1
  rw [s8, Option.bind_some]
  refine jE_bind.mpr (jE_mono (x_based v8 V (by omega) (by omega) (G7.slot (k := 6) (v := jn q5.1) (.inr rfl))) fun q11 hq11 => ?_)
  rw [show ((((wd g n st.1).2.2.2, st.2.1, st.2.2.1 + 1, (0 : Int) + 1) : pS).1) = (wd g n st.1).2.2.2 from rfl] at hq11
  cases hB : pvBased g n (wd g n st.1).2.2.2 with
  | inl e =>
    rw [hB] at hq11
    rw [show q11.2.1 = true from hq11.1]
    exact jS_end (cFm.flt (z := e) hq11)
  | inr z =>
    rw [hB] at hq11
    obtain ⟨r1, v11, G11, k11, K11⟩ := hq11
    rw [r1]
    show jE (u_X44_valued_101 q11.1 R y0) _
    rw [eu_X44_valued_101]; unfold du_X44_valued_101
    rw [eu_X44_valued_114]; unfold du_X44_valued_114
    have y00 : 0 ≤ y0 := by have := V.2.2.2.1; have := h.2.2.2.2.1; omega
    rw [jrd_in y00 v11.2.2.2.2.1.2.2, Option.bind_some, G11.1, if_neg (by decide)]
    have T11 : layT (jn q5.1) q11.1 1 (jn q5.1) [(0, 0)] := K11 _ h5'.2.1 _ _ _ (T8 _ _ _ l5)
    obtain ⟨w12, u1, u2, u3, u4⟩ := x_v139 (L := [(0, 0)]) v11 V G11 h3 (by rw [k11, jf_pos ⟨rfl, rfl, rfl⟩]) T11 (by have := v5.2.1.1; omega) (by show I.length + 1 ≤ 2000; omega) (by show 1 ≤ 71; omega)
    rw [u1]
    exact jS_end ⟨rfl, ⟨_, u2⟩, u3, u4⟩
end jCval5
