/-! the component's lines: all of one *-/
section jCline2
variable {s t u u0 u1 w v' : jS} {R x b a a' n p p' p'' p0 q r k c f v y e d o z K S X Y X' Y' P Q pl lo lo' ln y0 eX eY f0 f1 f2 : Int} {g fl : Int → Int} {l m : List Int} {NL : List (List Int)} {W : wR4} {st st' : pS} {I I' L L1 L2 : pI} {A : Int → Prop} {OL : List pvO} {SL : List pvS} {qq : jS × Bool × Int} {zz : pvO} {ss : pvS}
theorem cF.wr2 (h : cF u w R x b S X Y) (k : jGw w v' X' Y' fun z => b ≤ z ∧ z ≤ b + 5) (hR : ¬ (b ≤ R ∧ R ≤ b + 5) ∧ R < jn u) (hx : ¬ (b ≤ x ∧ x ≤ b + 5) ∧ x < jn u) : cF u v' R x b S (X + X') (Y + Y') := by
  obtain ⟨⟨h1, h2, h3, h4, h5, h6⟩, h7, h8, h9, h10⟩ := h
  obtain ⟨⟨k1, k2, k3, k4, k5, k6⟩, k7, k8⟩ := k
  refine ⟨⟨by omega, by omega, by omega, k4.trans h4, k5.trans h5, k6.trans h6⟩, fun y hy => ⟨((k7 y (by omega)).1).trans (h7 y hy).1, ((k7 y (by omega)).2).trans (h7 y hy).2⟩, fun c y j hy z z1 z2 => ?_, ?_, fun j hj => ?_⟩
  · rw [k8 c y j (by omega) (by omega)]; exact h8 c y j hy z z1 z2
  · rw [k8 8 x 0 (by omega) (by omega)]; exact h9
  · rw [k8 53 R j (by omega) (by omega)]; exact h10 j hj
theorem cF.transS (h : cF u w R x b b X Y) (k : cF w v' R x b S X' Y') (hS : jn u ≤ S) : cF u v' R x b b (X + X') (Y + Y') := by
  obtain ⟨⟨h1, h2, h3, h4, h5, h6⟩, h7, h8, h9, h10⟩ := h
  obtain ⟨⟨k1, k2, k3, k4, k5, k6⟩, k7, k8, k9, k10⟩ := k
  refine ⟨⟨by omega, by omega, by omega, k4.trans h4, k5.trans h5, k6.trans h6⟩, fun y hy => ⟨((k7 y (by omega)).1).trans (h7 y hy).1, ((k7 y (by omega)).2).trans (h7 y hy).2⟩, fun c y j hy z z1 z2 => ?_, ?_, fun j hj => (k10 j hj).trans (h10 j hj)⟩
  · rw [k8 c y j (by omega) (by omega) z1 (by omega)]; exact h8 c y j hy z z1 z2
  · rcases k9 with q | q
    · rw [q]; exact h9
    · exact .inr (by omega)
theorem cGo.transS (h : cGo u w R x b b g n p p') (k : cGo w v' R x b S g n p' p'') (hS : jn u ≤ S) : cGo u v' R x b b g n p p'' := (cF.transS h k hS).mono (by omega) (by omega)
theorem cFm_S (k : cFm w R x b S g n p' f pl qq) (h : cGo u w R x b b g n p p') (hS : jn u ≤ S) : cFm u R x b b g n p f pl qq := by
  obtain ⟨k0, k1, k2⟩ := k
  refine ⟨k0, k1, ((cF.gw h).trans k2 fun y hy z => ?_).mono (by omega) (by omega) fun y _ z => z⟩
  rcases z with z | z
  · exact z
  · refine fA.after h ?_ hy
    rcases z with z | z | z
    · exact .inl z
    · exact .inr (.inl z)
    · omega
def lOut (u : jS) (R x b a : Int) (g : Int → Int) (n p : Int) (pr : fE ⊕ pvB) (q : jS × Bool × Int) : Prop := match pr with
  | .inl e => cFm u R x b b g n p e.1 e.2 q
  | .inr z => q.2.1 = false ∧ (∃ hh, lB q.1 R x b a g n (z.1.1, z.1.2.1, z.1.2.2, hh) z.2.1 z.2.2.1 z.2.2.2) ∧ cGo u q.1 R x b b g n p z.1.1 ∧ p ≤ z.1.1 ∧ lkS q.1 R x g n (wd g n z.1.1) ∧ (wd g n z.1.1).1 = 0
theorem lOut.after {pr : fE ⊕ pvB} (k : lOut w R x b a g n p' pr qq) (h : cGo u w R x b b g n p p') (hp : p ≤ p') : lOut u R x b a g n p pr qq := by
  cases pr with
  | inl e => exact cFm.after k h
  | inr z => exact ⟨k.1, k.2.1, h.trans k.2.2.1, by have := k.2.2.2.1; omega, k.2.2.2.2⟩
/-- the loop's rest -/
noncomputable def lnK : (jS × List Int) ⊕ (jS × Bool × Int) → Option (jS × Bool × Int) := fun x => match x with
  | .inl q => jlpW (jc1 b_X44_line_4) q.2 q.1
  | .inr r => some r
def lnP (R x b a : Int) (g : Int → Int) (n ln : Int) (m : Nat) : Prop := ∀ (u : jS) (st : pS) (I : pI) (OL : List pvO) (SL : List pvS), (n + 1 - st.1).toNat ≤ m → lB u R x b a g n st I OL SL → lkS u R x g n (wd g n st.1) → cRn u R g n st.1 → jf u 53 R 3 = ln → jE (jlpW (jc1 b_X44_line_4) [R] u) (lOut u R x b a g n st.1 (pvLine g n ln m ((st.1, st.2.1, st.2.2.1), I, OL, SL)))
theorem jinr_some {S R : Type} {r : R} : (jinr (some r) : Option (S ⊕ R)) = some (.inr r) := rfl
theorem x_162 {m : Nat} (ih : lnP R x b a g n ln m) (hm : (n + 1 - st.1).toNat ≤ m) (h : lB u R x b a g n st I OL SL) (M : cRn u R g n st.1) (hl : jf u 53 R 3 = ln) : jE ((u_X44_line_162 u R).bind lnK) (lOut u R x b a g n st.1 (pvLine g n ln m ((st.1, st.2.1, st.2.2.1), I, OL, SL))) := by
  have C := h.1
  have hp1 := C.2.2.1.2
  rw [eu_X44_line_162]; unfold du_X44_line_162
  refine jE_bind.mpr (jE_bind.mpr (jE_mono (cL_look C (M.rm hp1)) fun q hq => ?_))
  rcases hq with ⟨h1, h2, h3⟩ | ⟨h1, h2, C1, lk, S1, M1⟩
  · obtain ⟨m', e⟩ : ∃ m', m = m' + 1 := ⟨m - 1, by omega⟩
    subst e
    rw [h2, show pvLine g n ln (m' + 1) ((st.1, st.2.1, st.2.2.1), I, OL, SL) = .inl ((wd g n st.1).2.1, (wd g n st.1).2.2.1) from if_pos h1]
    exact jS_end (jS_end (cFm.flt (z := ((wd g n st.1).2.1, (wd g n st.1).2.2.1)) (h3.fm hp1 h2)))
  · rw [h2]
    have G1 : cGo u q.1 R x b b g n st.1 st.1 := S1.cg (Int.le_refl _)
    refine jS_end ?_
    exact jE_mono (ih q.1 st I OL SL hm (h.step S1 C1 (Int.le_refl _)) lk (M.after G1) (by rw [S1.2.2.2.2 3 (by omega)]; exact hl)) fun q' hq' => hq'.after G1 (Int.le_refl _)
theorem x_room (h : lB u R x b a g n st I OL SL) (hB : 0 ≤ jn u ∧ jBd u 1 6) : m_X44_room u R pl = some (if (SL.length : Int) = 400 then (rWr u R 8 pl, true, jn u) else (u, false, 0)) := by
  have B := h.1.2.1
  rw [em_X44_room]; unfold dm_X44_room
  rw [h.1.1.2.2.2.1, jrd_in B.1.1 B.1.2.2, Option.bind_some, h.2.2.2.1.1]
  by_cases c : (SL.length : Int) = 400
  · rw [if_pos c, if_pos c, c_thr hB]
  · rw [if_neg c, if_neg c]
/-- a statement is put into the book -/
theorem x_stat (h : lB u R x b a g n st I OL SL) (h4 : ¬ (SL.length : Int) = 400) (G : cSt u1 u R x b g n p0 st.1) (hlt : p0 < st.1) (M1 : cRn u1 R g n p0) (hl : jf u 53 R 3 = ln) (hR : R < jn u1) (hx : x < jn u1) : ∃ w, m_X44_statement u R o v pl = some (w, jn u) ∧ lS w R x b a (jn u) g n st I OL SL (o, v, (OL.length : Int), 0, pl, ln) ∧ cGo u1 w R x b b g n p0 st.1 ∧ cRn w R g n st.1 ∧ jf w 53 R 3 = ln ∧ jn u1 ≤ jn u := by
  have C := h.1
  have lk := C.lk
  have hp1 := C.2.2.1.2
  obtain ⟨n0, b1, b2⟩ : cRn u R g n st.1 := M1.after (G.cg (S := b) (by omega))
  have h400 := h.2.2.2.1.2.1
  obtain ⟨w, e1, e2, e3, e4, e5⟩ := x_statement (o := o) (v := v) (pl := pl) h (by omega) n0 ⟨by omega, by omega⟩ hl
  have B := C.2.1
  have hr := C.1.1
  have hxr := C.1.row
  have c1 : ∀ W, lkc w R W = lkc u R W := fun W => by unfold lkc; rw [e4]
  have c2 : ∀ W, lkq w R W = lkq u R W := fun W => by unfold lkq; rw [e4]
  have nn := G.1
  have G2 : cGo u1 w R x b b g n p0 st.1 := by
    unfold cGo
    rw [c1, c2]
    exact ((kpE.cf G (S := b)).wr2 (e3.mono (Int.le_refl _) (Int.le_refl _) fun z _ q => by omega) ⟨B.no (.inl hr.2.2), hR⟩ ⟨B.no (.inr (.inl hxr.2.2.1)), hx⟩).mono (by omega) (by omega)
  exact ⟨w, e1, e2, G2, M1.after G2, by rw [e4]; exact hl, nn.1⟩
/-- a word that is no number's label: a name, or nothing that can be -/
theorem x_l68 {mm : Nat} (ih : lnP R x b a g n ln mm) (hm : (n + 1 - st.1).toNat ≤ mm + 1) (h : lB u R x b a g n st I OL SL) (lk : lkS u R x g n (wd g n st.1)) (M : cRn u R g n st.1) (hl : jf u 53 R 3 = ln) (c0 : ¬ (wd g n st.1).1 = 0) (c2 : ¬ ((wd g n st.1).1 = 2 ∧ (wd g n st.1).2.2.2 = (wd g n st.1).2.2.1 + 1)) : jE ((u_X44_line_68 u R (wd g n st.1).2.2.1).bind lnK) (lOut u R x b a g n st.1 (pvLine g n ln (mm + 1) ((st.1, st.2.1, st.2.2.1), I, OL, SL))) := by
  have C := h.1
  have hp1 := C.2.2.1.2
  have hw := wd_in C.1.2.2.2.2.2.2.2.1.1 C.2.2.1.1 hp1
  have c6 : ¬ (wd g n st.1).1 = 6 := lk.2.2.2.2
  have h7 := hw.2.2.2.1 c6
  have bd := cRm.bd C (M.rm hp1)
  have k5 : jf u 53 R 5 = kdO (wd g n st.1).1 := lk.1.1
  have e1 : jf u 53 R 5 = 1 ↔ (wd g n st.1).1 = 1 ∨ (wd g n st.1).1 = 7 := by rw [k5]; unfold kdO; split <;> omega
  have wr5 : ¬ (wd g n st.1).1 = 1 → jE ((jinr (u_X44_line_152 u R)).bind lnK) (lOut u R x b a g n st.1 (pvLine g n ln (mm + 1) ((st.1, st.2.1, st.2.2.1), I, OL, SL))) := fun z => by
    rw [eu_X44_line_152]; unfold du_X44_line_152
    rw [c_thr ⟨bd.1, bd.2.le (by omega) (by omega)⟩, lk.2.2.1, show pvLine g n ln (mm + 1) ((st.1, st.2.1, st.2.2.1), I, OL, SL) = .inl (5, (wd g n st.1).2.2.1) from (if_neg c6).trans ((if_neg c0).trans ((if_neg c2).trans (if_neg z)))]
    exact jS_end ((cFl.fm (cFl.thr C) hp1 rfl))
  rw [eu_X44_line_68]; unfold du_X44_line_68
  by_cases ck : (wd g n st.1).1 = 1 ∨ (wd g n st.1).1 = 7
  rotate_left
  · rw [if_neg (fun z => ck (e1.mp z))]
    exact wr5 (fun z => ck (.inl z))
  rw [if_pos (e1.mpr ck), x_isHere C lk ck, Option.bind_some]
  by_cases c7 : (wd g n st.1).1 = 7
  · rw [if_pos c7, if_neg (by decide)]
    exact wr5 (by omega)
  have c1 : (wd g n st.1).1 = 1 := by omega
  rw [if_neg c7, if_pos rfl, x_room h ⟨bd.1, bd.2.le (by omega) (by omega)⟩, Option.bind_some]
  have eL : pvLine g n ln (mm + 1) ((st.1, st.2.1, st.2.2.1), I, OL, SL) = if (SL.length : Int) = 400 ∨ nmIx st.2.1 (nmO g (wd g n st.1).2.2.1 (wd g n st.1).2.2.2) = 150 then .inl (8, (wd g n st.1).2.2.1)
      else if (wd g n (wd g n st.1).2.2.2).1 = 6 then .inl ((wd g n (wd g n st.1).2.2.2).2.1, (wd g n (wd g n st.1).2.2.2).2.2.1)
      else if rgO (nmO g (wd g n st.1).2.2.1 (wd g n st.1).2.2.2) = -1 ∧ ((wd g n (wd g n st.1).2.2.2).1 = 5 ∧ (wd g n (wd g n st.1).2.2.2).2.1 = 58) then
        pvLine g n ln mm (((wd g n (wd g n st.1).2.2.2).2.2.2, nmAdd st.2.1 (nmO g (wd g n st.1).2.2.1 (wd g n st.1).2.2.2), st.2.2.1), I, OL, SL ++ [((0 : Int), ((nmIx st.2.1 (nmO g (wd g n st.1).2.2.1 (wd g n st.1).2.2.2) : Nat) : Int), (OL.length : Int), (0 : Int), (wd g n st.1).2.2.1, ln)])
      else pvEnd g n ((wd g n st.1).2.2.2, nmAdd st.2.1 (nmO g (wd g n st.1).2.2.1 (wd g n st.1).2.2.2), st.2.2.1) I OL SL (2, ((nmIx st.2.1 (nmO g (wd g n st.1).2.2.1 (wd g n st.1).2.2.2) : Nat) : Int), (OL.length : Int), 0, (wd g n st.1).2.2.1, ln) := (if_neg c6).trans ((if_neg c0).trans ((if_neg c2).trans (if_pos c1)))
  have hl16 := nmO_len (g := g) h7.1
  have h16 := hw.2.2.2.2.1 (.inl c1)
  by_cases c400 : (SL.length : Int) = 400
  · rw [if_pos c400, eL, if_pos (.inl c400)]
    exact jS_end ((cFl.fm (cFl.thr C) hp1 rfl))
  rw [if_neg c400]
  show jE ((jth false _ _).bind lnK) _
  rw [jth_ff]
  have hn := x_named C lk c1 (by omega) ⟨bd.1, bd.2.le (by omega) (by omega)⟩
  by_cases c150 : nmIx st.2.1 (nmO g (wd g n st.1).2.2.1 (wd g n st.1).2.2.2) = 150
  · rw [if_pos c150] at hn
    have d150 : (SL.length : Int) = 400 ∨ nmIx st.2.1 (nmO g (wd g n st.1).2.2.1 (wd g n st.1).2.2.2) = 150 := .inr c150
    rw [hn, Option.bind_some, eL, if_pos d150]
    exact jS_end ((cFl.fm (cFl.thr C) hp1 rfl))
  rw [if_neg c150] at hn
  obtain ⟨w1, m1, C1, lk1, k1⟩ := hn
  have d150 : ¬ ((SL.length : Int) = 400 ∨ nmIx st.2.1 (nmO g (wd g n st.1).2.2.1 (wd g n st.1).2.2.2) = 150) := fun z => by
    rcases z with z | z
    · exact c400 z
    · exact c150 z
  rw [m1, Option.bind_some, eL, if_neg d150]
  show jE ((jth false _ _).bind lnK) _
  rw [jth_ff]
  have h1 := h.step k1 C1 (Int.le_refl _)
  have e4 : jf w1 53 R 4 = 1 := lk1.2.1
  have Sc : cSt u w1 R x b g n st.1 st.1 := by
    refine k1.mono ?_ ?_
    · unfold lkc; rw [e4, lk.2.1]; omega
    · unfold lkq; rw [e4, lk.2.1]; omega
  have h0 : 0 ≤ (wd g n st.1).2.2.2 := by have := hw.1; have := C.2.2.1.1; omega
  have hlt : st.1 < (wd g n st.1).2.2.2 := by have := hw.1; omega
  obtain ⟨t1, t2, t3⟩ := C1.take lk1 ⟨h7.2.1, h0⟩
  have S2 : cSt w1 (jp (jp w1 53 R 2 (jf w1 53 R 8)) 53 R 4 0) R x b g n st.1 (wd g n st.1).2.2.2 := cSt.tk (st := (st.1, nmAdd st.2.1 (nmO g (wd g n st.1).2.2.1 (wd g n st.1).2.2.2), st.2.2)) C1 lk1 c0 t2 t3 (by omega) (by omega)
  have S3 := Sc.trans S2
  have h2 := h1.step S2 t1 (Int.le_refl _)
  have l3 : jf (jp (jp w1 53 R 2 (jf w1 53 R 8)) 53 R 4 0) 53 R 3 = ln := by rw [S3.2.2.2.2 3 (by omega)]; exact hl
  have hxx := C.1.row
  -- what a name with operands gives
  have e124 : ∀ {w3 : jS}, lB w3 R x b a g n ((wd g n st.1).2.2.2, nmAdd st.2.1 (nmO g (wd g n st.1).2.2.1 (wd g n st.1).2.2.2), st.2.2) I OL SL → cSt u w3 R x b g n st.1 (wd g n st.1).2.2.2 → jf w3 53 R 3 = ln → ∀ {pr : fE ⊕ pvB}, (pr = match pvE2 g n ((wd g n st.1).2.2.2, nmAdd st.2.1 (nmO g (wd g n st.1).2.2.1 (wd g n st.1).2.2.2), st.2.2.1) I OL (2, ((nmIx st.2.1 (nmO g (wd g n st.1).2.2.1 (wd g n st.1).2.2.2) : Nat) : Int), (OL.length : Int), 0, (wd g n st.1).2.2.1, ln) with
      | .inl e => .inl e
      | .inr z => .inr (z.1, z.2.1, z.2.2.1, SL ++ [z.2.2.2])) → jE ((jinr (u_X44_line_124 w3 R (wd g n st.1).2.2.1 ((nmIx st.2.1 (nmO g (wd g n st.1).2.2.1 (wd g n st.1).2.2.2) : Nat) : Int)) : Option ((jS × List Int) ⊕ (jS × Bool × Int))).bind lnK) (lOut u R x b a g n st.1 pr) := fun {w3} h3 G3 l3 {pr} hpr => by
    subst hpr
    obtain ⟨w4, s1, s2, s3, s4, s5, s6⟩ := x_stat (o := 2) (v := ((nmIx st.2.1 (nmO g (wd g n st.1).2.2.1 (wd g n st.1).2.2.2) : Nat) : Int)) (pl := (wd g n st.1).2.2.1) h3 c400 G3 hlt M l3 C.1.1.2.1 (by omega)
    rw [eu_X44_line_124]; unfold du_X44_line_124
    rw [s1, Option.bind_some]
    show jE ((jinr ((m_X44_operands w4 R (jn w3)).bind _) : Option ((jS × List Int) ⊕ (jS × Bool × Int))).bind lnK) _
    unfold jinr
    refine jE_bind.mpr (jE_bind.mpr (jE_bind.mpr (jE_mono (x_operands s2 s4 (Int.le_refl _) (by show (0 : Int) ≤ OL.length; omega)) fun q hq => ?_)))
    have eq0 : ((((wd g n st.1).2.2.2, nmAdd st.2.1 (nmO g (wd g n st.1).2.2.1 (wd g n st.1).2.2.2), st.2.2) : pS).1, (((wd g n st.1).2.2.2, nmAdd st.2.1 (nmO g (wd g n st.1).2.2.1 (wd g n st.1).2.2.2), st.2.2) : pS).2.1, (((wd g n st.1).2.2.2, nmAdd st.2.1 (nmO g (wd g n st.1).2.2.1 (wd g n st.1).2.2.2), st.2.2) : pS).2.2.1) = ((wd g n st.1).2.2.2, nmAdd st.2.1 (nmO g (wd g n st.1).2.2.1 (wd g n st.1).2.2.2), st.2.2.1) := rfl
    rw [eq0] at hq
    cases hP : pvE2 g n ((wd g n st.1).2.2.2, nmAdd st.2.1 (nmO g (wd g n st.1).2.2.1 (wd g n st.1).2.2.2), st.2.2.1) I OL (2, ((nmIx st.2.1 (nmO g (wd g n st.1).2.2.1 (wd g n st.1).2.2.2) : Nat) : Int), (OL.length : Int), 0, (wd g n st.1).2.2.1, ln) with
    | inl e =>
      rw [hP] at hq
      have hq' := cFm_S (qq := q) (f := e.1) (pl := e.2) hq s3 s6
      rw [show q.2.1 = true from hq.1]
      exact jS_end (jS_end (jS_end (cFm.flt (z := e) hq')))
    | inr z =>
      rw [hP] at hq
      obtain ⟨r1, ⟨hh, h5⟩, G5, l5, lk5, z5⟩ := hq
      rw [r1]
      exact jS_end (jS_end (jS_end ⟨rfl, ⟨hh, h5.lB⟩, cGo.transS s3 G5 s6, by show st.1 ≤ z.1.1; have l5' : (wd g n st.1).2.2.2 ≤ z.1.1 := l5; omega, lk5, z5⟩))
  have e106 : ∀ y0, u_X44_line_106 w1 R (wd g n st.1).2.2.1 ((nmIx st.2.1 (nmO g (wd g n st.1).2.2.1 (wd g n st.1).2.2.2) : Nat) : Int) y0 = if y0 = 0 then (m_X44_sees (jp (jp w1 53 R 2 (jf w1 53 R 8)) 53 R 4 0) R 58).bind fun q2 =>
      jth q2.2.1 (jinr (some (q2.1, true, q2.2.2))) <|
      if q2.2.2 = 0 then
        jinr (u_X44_line_124 q2.1 R (wd g n st.1).2.2.1 ((nmIx st.2.1 (nmO g (wd g n st.1).2.2.1 (wd g n st.1).2.2.2) : Nat) : Int))
      else
        (m_X44_take q2.1 R).bind fun q3 =>
        (m_X44_statement q3.1 R 0 ((nmIx st.2.1 (nmO g (wd g n st.1).2.2.1 (wd g n st.1).2.2.2) : Nat) : Int) (wd g n st.1).2.2.1).bind fun q4 =>
        u_X44_line_162 q4.1 R
    else jinr (u_X44_line_124 (jp (jp w1 53 R 2 (jf w1 53 R 8)) 53 R 4 0) R (wd g n st.1).2.2.1 ((nmIx st.2.1 (nmO g (wd g n st.1).2.2.1 (wd g n st.1).2.2.2) : Nat) : Int)) := fun y0 => by
    rw [eu_X44_line_106]; unfold du_X44_line_106
    rw [x_take, Option.bind_some]
  rw [(lk1.1.2.2.1 (.inl c1)).2]
  show jE ((if rgO (nmO g (wd g n st.1).2.2.1 (wd g n st.1).2.2.2) = -1 then _ else _ : Option ((jS × List Int) ⊕ (jS × Bool × Int))).bind lnK) _
  generalize jp (jp w1 53 R 2 (jf w1 53 R 8)) 53 R 4 0 = w2 at *
  have M2 : cRn w2 R g n (wd g n st.1).2.2.2 := M.after (S3.cg (S := b) (by omega))
  by_cases cr : rgO (nmO g (wd g n st.1).2.2.1 (wd g n st.1).2.2.2) = -1
  rotate_left
  · rw [if_neg cr, e106, if_neg (by decide)]
    refine e124 h2 S3 l3 ?_
    by_cases d6 : (wd g n (wd g n st.1).2.2.2).1 = 6
    · rw [if_pos d6, show pvE2 g n ((wd g n st.1).2.2.2, nmAdd st.2.1 (nmO g (wd g n st.1).2.2.1 (wd g n st.1).2.2.2), st.2.2.1) I OL (2, ((nmIx st.2.1 (nmO g (wd g n st.1).2.2.1 (wd g n st.1).2.2.2) : Nat) : Int), (OL.length : Int), 0, (wd g n st.1).2.2.1, ln) = .inl ((wd g n (wd g n st.1).2.2.2).2.1, (wd g n (wd g n st.1).2.2.2).2.2.1) from if_pos d6]
    · have dC : ¬ (rgO (nmO g (wd g n st.1).2.2.1 (wd g n st.1).2.2.2) = -1 ∧ ((wd g n (wd g n st.1).2.2.2).1 = 5 ∧ (wd g n (wd g n st.1).2.2.2).2.1 = 58)) := fun z => cr z.1
      rw [if_neg d6, if_neg dC]
      exact pvEnd_2
  rw [if_pos cr, e106, if_pos rfl]
  have C2 := h2.1
  refine jE_bind.mpr (jE_bind.mpr (jE_mono (x_sees C2 (M2.rm h7.2.1)) fun q hq => ?_))
  have hq' : if (wd g n (wd g n st.1).2.2.2).1 = 6 then q.2.1 = true ∧ cFl w2 R x b g n (wd g n st.1).2.2.2 (wd g n (wd g n st.1).2.2.2).2.1 (wd g n (wd g n st.1).2.2.2).2.2.1 q
    else q.2 = (false, if (wd g n (wd g n st.1).2.2.2).1 = 5 ∧ (wd g n (wd g n st.1).2.2.2).2.1 = 58 then 1 else 0) ∧ cR q.1 R x b a g n ((wd g n st.1).2.2.2, nmAdd st.2.1 (nmO g (wd g n st.1).2.2.1 (wd g n st.1).2.2.2), st.2.2) ∧ lkS q.1 R x g n (wd g n (wd g n st.1).2.2.2) ∧ cSt w2 q.1 R x b g n (wd g n st.1).2.2.2 (wd g n st.1).2.2.2 := hq
  clear hq
  by_cases d6 : (wd g n (wd g n st.1).2.2.2).1 = 6
  · rw [if_pos d6] at hq' ⊢
    rw [hq'.1]
    exact jS_end (jS_end (cFm.flt (z := ((wd g n (wd g n st.1).2.2.2).2.1, (wd g n (wd g n st.1).2.2.2).2.2.1)) ((cFl.fm hq'.2 h7.2.1 hq'.1).after (S3.cg (by omega)))))
  rw [if_neg d6] at hq' ⊢
  obtain ⟨r1, C3, lk3, S4⟩ := hq'
  have h3 := h2.step S4 C3 (Int.le_refl _)
  have S5 := S3.trans S4
  have l5 : jf q.1 53 R 3 = ln := by rw [S4.2.2.2.2 3 (by omega)]; exact l3
  by_cases c58 : (wd g n (wd g n st.1).2.2.2).1 = 5 ∧ (wd g n (wd g n st.1).2.2.2).2.1 = 58
  rotate_left
  · rw [if_neg c58] at r1
    have dC : ¬ (rgO (nmO g (wd g n st.1).2.2.1 (wd g n st.1).2.2.2) = -1 ∧ ((wd g n (wd g n st.1).2.2.2).1 = 5 ∧ (wd g n (wd g n st.1).2.2.2).2.1 = 58)) := fun z => c58 z.2
    rw [r1, if_neg dC]
    show jE (jth false _ _) _
    rw [jth_ff, if_pos rfl]
    have := e124 h3 S5 l5 (pr := pvEnd g n ((wd g n st.1).2.2.2, nmAdd st.2.1 (nmO g (wd g n st.1).2.2.1 (wd g n st.1).2.2.2), st.2.2.1) I OL SL (2, ((nmIx st.2.1 (nmO g (wd g n st.1).2.2.1 (wd g n st.1).2.2.2) : Nat) : Int), (OL.length : Int), 0, (wd g n st.1).2.2.1, ln)) pvEnd_2
    exact jE_bind.mp this
  rw [if_pos c58] at r1
  have dC : rgO (nmO g (wd g n st.1).2.2.1 (wd g n st.1).2.2.2) = -1 ∧ ((wd g n (wd g n st.1).2.2.2).1 = 5 ∧ (wd g n (wd g n st.1).2.2.2).2.1 = 58) := ⟨cr, c58⟩
  rw [r1, if_pos dC]
  show jE (jth false _ _) _
  rw [jth_ff, if_neg (by decide)]
  have hw2 := wd_in C3.1.2.2.2.2.2.2.2.1.1 C3.2.2.1.1 C3.2.2.1.2
  have hw2' : (wd g n st.1).2.2.2 ≤ (wd g n (wd g n st.1).2.2.2).2.2.1 := hw2.1
  have h72 : (wd g n (wd g n st.1).2.2.2).2.2.1 ≤ (wd g n (wd g n st.1).2.2.2).2.2.2 ∧ (wd g n (wd g n st.1).2.2.2).2.2.2 ≤ n ∧ 0 ≤ (wd g n (wd g n st.1).2.2.2).1 ∧ (wd g n (wd g n st.1).2.2.2).1 ≤ 7 ∧ ((wd g n (wd g n st.1).2.2.2).1 = 0 ∨ (wd g n (wd g n st.1).2.2.2).2.2.1 < (wd g n (wd g n st.1).2.2.2).2.2.2) := hw2.2.2.2.1 d6
  obtain ⟨t6, t7, t8⟩ := C3.take lk3 ⟨h72.2.1, by show 0 ≤ (wd g n (wd g n st.1).2.2.2).2.2.2; omega⟩
  have S6 : cSt q.1 (jp (jp q.1 53 R 2 (jf q.1 53 R 8)) 53 R 4 0) R x b g n (wd g n st.1).2.2.2 (wd g n (wd g n st.1).2.2.2).2.2.2 := cSt.tk (st := ((wd g n st.1).2.2.2, nmAdd st.2.1 (nmO g (wd g n st.1).2.2.1 (wd g n st.1).2.2.2), st.2.2)) C3 lk3 (by show ¬ (wd g n (wd g n st.1).2.2.2).1 = 0; omega) t7 t8 (by omega) (by omega)
  have S7 := S5.trans S6
  have h6 := h3.step S6 t6 (Int.le_refl _)
  have l7 : jf (jp (jp q.1 53 R 2 (jf q.1 53 R 8)) 53 R 4 0) 53 R 3 = ln := by rw [S6.2.2.2.2 3 (by omega)]; exact l5
  rw [x_take, Option.bind_some]
  generalize jp (jp q.1 53 R 2 (jf q.1 53 R 8)) 53 R 4 0 = w6 at *
  obtain ⟨w7, s1, s2, s3, s4, s5, s6⟩ := x_stat (u1 := u) (p0 := st.1) (o := 0) (v := ((nmIx st.2.1 (nmO g (wd g n st.1).2.2.1 (wd g n st.1).2.2.2) : Nat) : Int)) (pl := (wd g n st.1).2.2.1) h6 c400 S7 (by show st.1 < (wd g n (wd g n st.1).2.2.2).2.2.2; omega) M l7 C.1.1.2.1 (by omega)
  rw [s1, Option.bind_some]
  refine jE_bind.mp ?_
  have f := x_162 (m := mm) ih (by show (n + 1 - (wd g n (wd g n st.1).2.2.2).2.2.2).toNat ≤ mm; omega) s2.lB s4 s5
  exact jE_mono f fun q' hq' => hq'.after s3 (by show st.1 ≤ (wd g n (wd g n st.1).2.2.2).2.2.2; omega)
end jCline2
