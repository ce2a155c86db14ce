/-! the component's operands, a statement made -/
section jCops
variable {s t u u0 u1 w v' : jS} {R x b a a' n p p' p0 q r k c f v y e d o z K S X Y X' Y' P Q pl lo lo' ln y0 eX eY f0 f1 f2 : Int} {g fl : Int → Int} {l m : List Int} {NL : List (List Int)} {W : wR4} {st st' : pS} {I I' L L1 L2 : pI} {A : Int → Prop} {OL : List pvO} {SL : List pvS} {qq : jS × Bool × Int} {zz : pvO} {ss : pvS}
theorem lS.step (h : lS u R x b a S g n st I OL SL ss) (k : kpE u w R x b X Y) (C : cR w R x b a g n st') (hc : st.2.2.1 ≤ st'.2.2.1) : lS w R x b a S g n st' I OL SL ss := by
  obtain ⟨C0, hI, hO, hS, hl⟩ := h
  obtain ⟨m5, m7⟩ := kpE.sm C0.1 C0.2.1 C0.2.1.lt k
  have b0 := C0.2.1.1.1
  have hF1 : cF u w R x b (-1) _ _ := k.cf
  refine ⟨C, hI.sm m7, hO.cf hF1 m5 C0.1 C0.2.1 (.inl (by omega)), ?_, by omega⟩
  obtain ⟨⟨s0, s1⟩, s2, s3, s4, s5⟩ := hS
  refine ⟨⟨by rw [m5.1 5 (.inl rfl)]; exact s0, s1⟩, fun i hi => ?_, by rw [m5.2.2]; exact s3, s4, s5.cf hF1 C0.1 C0.2.1 (by omega)⟩
  rw [m5.2.2]
  obtain ⟨r1, r2, r3⟩ := s2 i hi
  exact ⟨r1, r2, r3.cf hF1 C0.1 C0.2.1 (by omega)⟩
noncomputable def pvT (g : Int → Int) (n : Int) (m : Nat) (q : qS) (I : pI) (OL : List pvO) (s : pvS) : fE ⊕ (qS × pI × List pvO × pvS) :=
  if (wd g n q.1).1 = 6 then .inl ((wd g n q.1).2.1, (wd g n q.1).2.2.1)
  else if (wd g n q.1).1 = 5 ∧ (wd g n q.1).2.1 = 44 then pvOps g n m ((wd g n q.1).2.2.2, q.2) I OL s
  else if (wd g n q.1).1 = 0 then .inr (q, I, OL, s)
  else .inl (5, (wd g n q.1).2.2.1)
theorem pvOps_s {m : Nat} {q : qS} {s : pvS} : pvOps g n (m + 1) q I OL s = match pvOp g n q I.length OL.length with
    | .inl e => .inl e
    | .inr z => pvT g n m z.1 (I ++ z.2.1) (OL ++ [z.2.2]) (sMany s (s.2.2.2.1 + 1)) := rfl
/-- what operands leave -/
def sOut (u : jS) (R x b a S : Int) (g : Int → Int) (n p : Int) (SL : List pvS) (pr : fE ⊕ (qS × pI × List pvO × pvS)) (q : jS × Bool × Int) : Prop := match pr with
  | .inl e => cFm u R x b S g n p e.1 e.2 q
  | .inr z => q.2.1 = false ∧ (∃ hh, lS q.1 R x b a S g n (z.1.1, z.1.2.1, z.1.2.2, hh) z.2.1 z.2.2.1 SL z.2.2.2) ∧ cGo u q.1 R x b S g n p z.1.1 ∧ p ≤ z.1.1 ∧ lkS q.1 R x g n (wd g n z.1.1) ∧ (wd g n z.1.1).1 = 0
theorem sOut.after {pr : fE ⊕ (qS × pI × List pvO × pvS)} (k : sOut w R x b a S g n p' SL pr qq) (h : cGo u w R x b S g n p p') (hp : p ≤ p') : sOut u R x b a S g n p SL pr qq := by
  cases pr with
  | inl e => exact cFm.after k h
  | inr z => exact ⟨k.1, k.2.1, h.trans k.2.2.1, by have := k.2.2.2.1; omega, k.2.2.2.2⟩
theorem x_opsLoop : ∀ (m : Nat) (u : jS) (st : pS) (I : pI) (OL : List pvO) (ss : pvS), (n - st.1).toNat ≤ m → lS u R x b a S g n st I OL SL ss → cRn u R g n st.1 → 0 ≤ ss.2.2.2.1 → ss.2.2.2.1 ≤ OL.length → jE (jlpW (jc2 b_X44_operands_17) [R, S] u) (sOut u R x b a S g n st.1 SL (pvT g n m (st.1, st.2.1, st.2.2.1) I OL ss)) := by
  intro m
  induction m with
  | zero =>
    intro u st I OL ss hm h M m0 m1
    have C := h.1
    have hp1 := C.2.2.1.2
    have hw := wd_in C.1.2.2.2.2.2.2.2.1.1 C.2.2.1.1 hp1
    obtain ⟨C', hC⟩ : ∃ C, C = jc2 b_X44_operands_17 := ⟨_, rfl⟩
    rw [← hC, jlpW_st, show C' [R, S] u = b_X44_operands_17 u R S by rw [hC]; rfl]
    unfold b_X44_operands_17
    refine jE_bind.mpr (jE_bind.mpr (jE_mono (x_sees C (M.rm hp1)) fun q hq => ?_))
    by_cases c6 : (wd g n st.1).1 = 6
    · rw [if_pos c6] at hq
      rw [hq.1, show pvT g n 0 (st.1, st.2.1, st.2.2.1) I OL ss = .inl ((wd g n st.1).2.1, (wd g n st.1).2.2.1) from if_pos c6]
      exact jS_inr (jS_end (jS_end (cFm.flt (z := ((wd g n st.1).2.1, (wd g n st.1).2.2.1)) (hq.2.fm hp1 hq.1))))
    rw [if_neg c6] at hq
    obtain ⟨q1, C1, lk, S1⟩ := hq
    have hlt : ¬ (wd g n st.1).1 = 5 := fun z => by have := hw.2.2.2.1 c6; have := hw.1; omega
    rw [if_neg (fun z => hlt z.1)] at q1
    rw [q1]
    show jE (jth false _ _) _
    rw [jth_ff, if_pos rfl, eu_X44_operands_38]; unfold du_X44_operands_38
    have k5 : jf q.1 53 R 5 = kdO (wd g n st.1).1 := lk.1.1
    have e0 : jf q.1 53 R 5 = 0 ↔ (wd g n st.1).1 = 0 := by rw [k5]; unfold kdO; split <;> omega
    by_cases c0 : (wd g n st.1).1 = 0
    · rw [if_pos (e0.mpr c0), show pvT g n 0 (st.1, st.2.1, st.2.2.1) I OL ss = .inr ((st.1, st.2.1, st.2.2.1), I, OL, ss) from (if_neg c6).trans ((if_neg (fun z => hlt z.1)).trans (if_pos c0))]
      exact jS_inr (jS_end (jS_end ⟨rfl, ⟨st.2.2.2, h.step S1 C1 (Int.le_refl _)⟩, S1.cg (Int.le_refl _), Int.le_refl _, lk, c0⟩))
    · have bd := cRm.bd C1 ((M.rm hp1).after S1)
      rw [if_neg (fun z => c0 (e0.mp z)), show pvT g n 0 (st.1, st.2.1, st.2.2.1) I OL ss = .inl (5, (wd g n st.1).2.2.1) from (if_neg c6).trans ((if_neg (fun z => hlt z.1)).trans (if_neg c0)), c_thr ⟨bd.1, bd.2.le (by omega) (by omega)⟩, lk.2.2.1]
      exact jS_inr (jS_end (jS_end ((cFl.fm (cFl.thr C1) hp1 rfl).after (S1.cg (Int.le_refl _)))))
  | succ m ih =>
    intro u st I OL ss hm h M m0 m1
    have C := h.1
    have hp1 := C.2.2.1.2
    have hw := wd_in C.1.2.2.2.2.2.2.2.1.1 C.2.2.1.1 hp1
    obtain ⟨C', hC⟩ : ∃ C, C = jc2 b_X44_operands_17 := ⟨_, rfl⟩
    rw [← hC, jlpW_st, show C' [R, S] u = b_X44_operands_17 u R S by rw [hC]; rfl]
    unfold b_X44_operands_17
    refine jE_bind.mpr (jE_bind.mpr (jE_mono (x_sees C (M.rm hp1)) fun q hq => ?_))
    by_cases c6 : (wd g n st.1).1 = 6
    · rw [if_pos c6] at hq
      rw [hq.1, show pvT g n (m + 1) (st.1, st.2.1, st.2.2.1) I OL ss = .inl ((wd g n st.1).2.1, (wd g n st.1).2.2.1) from if_pos c6]
      exact jS_inr (jS_end (jS_end (cFm.flt (z := ((wd g n st.1).2.1, (wd g n st.1).2.2.1)) (hq.2.fm hp1 hq.1))))
    rw [if_neg c6] at hq
    obtain ⟨q1, C1, lk, S1⟩ := hq
    have k5 : jf q.1 53 R 5 = kdO (wd g n st.1).1 := lk.1.1
    have e0 : jf q.1 53 R 5 = 0 ↔ (wd g n st.1).1 = 0 := by rw [k5]; unfold kdO; split <;> omega
    have G1 : cGo u q.1 R x b S g n st.1 st.1 := S1.cg (Int.le_refl _)
    by_cases c44 : (wd g n st.1).1 = 5 ∧ (wd g n st.1).2.1 = 44
    rotate_left
    · rw [if_neg c44] at q1
      rw [q1]
      show jE (jth false _ _) _
      rw [jth_ff, if_pos rfl, eu_X44_operands_38]; unfold du_X44_operands_38
      by_cases c0 : (wd g n st.1).1 = 0
      · rw [if_pos (e0.mpr c0), show pvT g n (m + 1) (st.1, st.2.1, st.2.2.1) I OL ss = .inr ((st.1, st.2.1, st.2.2.1), I, OL, ss) from (if_neg c6).trans ((if_neg c44).trans (if_pos c0))]
        exact jS_inr (jS_end (jS_end ⟨rfl, ⟨st.2.2.2, h.step S1 C1 (Int.le_refl _)⟩, G1, Int.le_refl _, lk, c0⟩))
      · have bd := cRm.bd C1 ((M.rm hp1).after S1)
        rw [if_neg (fun z => c0 (e0.mp z)), show pvT g n (m + 1) (st.1, st.2.1, st.2.2.1) I OL ss = .inl (5, (wd g n st.1).2.2.1) from (if_neg c6).trans ((if_neg c44).trans (if_neg c0)), c_thr ⟨bd.1, bd.2.le (by omega) (by omega)⟩, lk.2.2.1]
        exact jS_inr (jS_end (jS_end ((cFl.fm (cFl.thr C1) hp1 rfl).after G1)))
    rw [if_pos c44] at q1
    rw [q1]
    show jE (jth false _ _) _
    rw [jth_ff, if_neg (by decide)]
    have h1 := h.step S1 C1 (Int.le_refl _)
    have hnz : ¬ (wd g n st.1).1 = 0 := by omega
    have h7 := hw.2.2.2.1 c6
    have h0 : 0 ≤ (wd g n st.1).2.2.2 := by have := hw.1; have := C.2.2.1.1; omega
    have hlt : st.1 < (wd g n st.1).2.2.2 := by have := hw.1; omega
    obtain ⟨t1, t2, t3⟩ := C1.take lk ⟨h7.2.1, h0⟩
    have S2 : cSt q.1 (jp (jp q.1 53 R 2 (jf q.1 53 R 8)) 53 R 4 0) R x b g n st.1 (wd g n st.1).2.2.2 := cSt.tk C1 lk hnz t2 t3 (by omega) (by omega)
    have h2 := h1.step S2 t1 (Int.le_refl _)
    have G2 : cGo u (jp (jp q.1 53 R 2 (jf q.1 53 R 8)) 53 R 4 0) R x b S g n st.1 (wd g n st.1).2.2.2 := G1.trans (S2.cg (by omega))
    rw [x_take, Option.bind_some]
    generalize jp (jp q.1 53 R 2 (jf q.1 53 R 8)) 53 R 4 0 = w2 at *
    have o8 := h2.2.2.1.2.1
    refine jE_bind.mpr (jE_mono (x_operand h2 (M.after G2) ⟨m0, by omega⟩) fun q3 hq3 => ?_)
    have eT : pvT g n (m + 1) (st.1, st.2.1, st.2.2.1) I OL ss = pvOps g n (m + 1) ((wd g n st.1).2.2.2, st.2.1, st.2.2.1) I OL ss := (if_neg c6).trans (if_pos c44)
    rw [eT, pvOps_s]
    have eq0 : ((((wd g n st.1).2.2.2, st.2) : pS).1, (((wd g n st.1).2.2.2, st.2) : pS).2.1, (((wd g n st.1).2.2.2, st.2) : pS).2.2.1) = ((wd g n st.1).2.2.2, st.2.1, st.2.2.1) := rfl
    rw [eq0] at hq3
    cases hP : pvOp g n ((wd g n st.1).2.2.2, st.2.1, st.2.2.1) I.length OL.length with
    | inl e =>
      rw [hP] at hq3
      rw [show q3.2.1 = true from hq3.1]
      exact jS_inr (jS_end (jS_end (cFm.flt (z := e) (cFm.after hq3 G2))))
    | inr z =>
      rw [hP] at hq3
      obtain ⟨r1, ⟨hh, h3⟩, G3, l3⟩ := hq3
      have G3' : cGo w2 q3.1 R x b S g n (wd g n st.1).2.2.2 z.1.1 := G3
      have l3' : (wd g n st.1).2.2.2 < z.1.1 := l3
      have G4 := G2.trans G3'
      rw [r1]
      have ihh := ih q3.1 (z.1.1, z.1.2.1, z.1.2.2, hh) (I ++ z.2.1) (OL ++ [z.2.2]) (sMany ss (ss.2.2.2.1 + 1)) (by show (n - z.1.1).toNat ≤ m; omega) h3 (M.after G4) (by show 0 ≤ ss.2.2.2.1 + 1; omega) (by show ss.2.2.2.1 + 1 ≤ _; rw [List.length_append]; show ss.2.2.2.1 + 1 ≤ ((OL.length + 1 : Nat) : Int); omega)
      refine jS_end ?_
      show jE (jlpW C' [R, S] q3.1) _
      rw [hC]
      exact jE_mono ihh fun q5 hq5 => hq5.after G4 (by show st.1 ≤ z.1.1; omega)
/-- what is behind a name -/
noncomputable def pvE2 (g : Int → Int) (n : Int) (q : qS) (I : pI) (OL : List pvO) (s : pvS) : fE ⊕ (qS × pI × List pvO × pvS) :=
  if (wd g n q.1).1 = 6 then .inl ((wd g n q.1).2.1, (wd g n q.1).2.2.1)
  else if (wd g n q.1).1 = 0 then .inr (q, I, OL, s)
  else pvOps g n (n + 1 - q.1).toNat q I OL s
theorem pvEnd_2 {q : qS} {s : pvS} : pvEnd g n q I OL SL s = match pvE2 g n q I OL s with
    | .inl e => .inl e
    | .inr z => .inr (z.1, z.2.1, z.2.2.1, SL ++ [z.2.2.2]) := by
  unfold pvEnd pvE2
  by_cases c6 : (wd g n q.1).1 = 6
  · rw [if_pos c6, if_pos c6]
  rw [if_neg c6, if_neg c6]
  by_cases c0 : (wd g n q.1).1 = 0
  · rw [if_pos c0, if_pos c0]
  rw [if_neg c0, if_neg c0]
  cases pvOps g n (n + 1 - q.1).toNat q I OL s <;> rfl
theorem x_operands (h : lS u R x b a S g n st I OL SL ss) (M : cRn u R g n st.1) (m0 : 0 ≤ ss.2.2.2.1) (m1 : ss.2.2.2.1 ≤ OL.length) : jE (m_X44_operands u R S) (sOut u R x b a S g n st.1 SL (pvE2 g n (st.1, st.2.1, st.2.2.1) I OL ss)) := by
  have C := h.1
  have hp1 := C.2.2.1.2
  rw [em_X44_operands]; unfold dm_X44_operands
  refine jE_bind.mpr (jE_mono (cL_look C (M.rm hp1)) fun q hq => ?_)
  rcases hq with ⟨h1, h2, h3⟩ | ⟨h1, h2, C1, lk, S1, M1⟩
  · rw [h2, show pvE2 g n (st.1, st.2.1, st.2.2.1) I OL ss = .inl ((wd g n st.1).2.1, (wd g n st.1).2.2.1) from if_pos h1]
    exact jS_end (cFm.flt (z := ((wd g n st.1).2.1, (wd g n st.1).2.2.1)) (h3.fm hp1 h2))
  rw [h2]
  show jE (jth false _ _) _
  rw [jth_ff]
  have k5 : jf q.1 53 R 5 = kdO (wd g n st.1).1 := lk.1.1
  have e0 : jf q.1 53 R 5 = 0 ↔ (wd g n st.1).1 = 0 := by rw [k5]; unfold kdO; split <;> omega
  have G1 : cGo u q.1 R x b S g n st.1 st.1 := S1.cg (Int.le_refl _)
  have hL := h.step S1 C1 (Int.le_refl _)
  by_cases c0 : (wd g n st.1).1 = 0
  · rw [if_pos (e0.mpr c0), show pvE2 g n (st.1, st.2.1, st.2.2.1) I OL ss = .inr ((st.1, st.2.1, st.2.2.1), I, OL, ss) from (if_neg h1).trans (if_pos c0)]
    exact jS_end ⟨rfl, ⟨st.2.2.2, hL⟩, G1, Int.le_refl _, lk, c0⟩
  rw [if_neg (fun z => c0 (e0.mp z))]
  obtain ⟨m, hm⟩ : ∃ m : Nat, (n + 1 - st.1).toNat = m + 1 := ⟨(n - st.1).toNat, by omega⟩
  have eE : pvE2 g n (st.1, st.2.1, st.2.2.1) I OL ss = pvOps g n (m + 1) (st.1, st.2.1, st.2.2.1) I OL ss := by
    rw [← hm]; exact (if_neg h1).trans (if_neg c0)
  rw [eE, pvOps_s]
  have o8 := hL.2.2.1.2.1
  refine jE_bind.mpr (jE_mono (x_operand hL (M.after G1) ⟨m0, by omega⟩) fun q3 hq3 => ?_)
  cases hP : pvOp g n (st.1, st.2.1, st.2.2.1) I.length OL.length with
  | inl e =>
    rw [hP] at hq3
    rw [show q3.2.1 = true from hq3.1]
    exact jS_end (cFm.flt (z := e) (cFm.after hq3 G1))
  | inr z =>
    rw [hP] at hq3
    obtain ⟨r1, ⟨hh, h3⟩, G3, l3⟩ := hq3
    have G4 := G1.trans G3
    rw [r1]
    show jE (u_X44_operands_17 q3.1 R S) _
    rw [eu_X44_operands_17]; unfold du_X44_operands_17
    have ihh := x_opsLoop m q3.1 (z.1.1, z.1.2.1, z.1.2.2, hh) (I ++ z.2.1) (OL ++ [z.2.2]) (sMany ss (ss.2.2.2.1 + 1)) (by show (n - z.1.1).toNat ≤ m; omega) h3 (M.after G4) (by show 0 ≤ ss.2.2.2.1 + 1; omega) (by show ss.2.2.2.1 + 1 ≤ _; rw [List.length_append]; show ss.2.2.2.1 + 1 ≤ ((OL.length + 1 : Nat) : Int); omega)
    exact jE_mono ihh fun q5 hq5 => hq5.after G4 (by show st.1 ≤ z.1.1; omega)
/-- a book, between statements -/
def lB (u : jS) (R x b a : Int) (g : Int → Int) (n : Int) (st : pS) (I : pI) (OL : List pvO) (SL : List pvS) : Prop := cR u R x b a g n st ∧ itC u b I ∧ opsC u b x OL ∧ stsC u b SL ∧ (I.length : Int) ≤ st.2.2.1
theorem stS.sts (h : stS u b SL S ss) : stsC u b (SL ++ [ss]) := by
  obtain ⟨⟨s0, s1⟩, s2, s3, s4, s5⟩ := h
  have hlen : (SL ++ [ss]).length = SL.length + 1 := by rw [List.length_append]; rfl
  refine ⟨by rw [hlen]; exact s0, by omega, fun i hi => ?_⟩
  by_cases c : i = SL.length
  · subst c
    rw [s3, show (SL ++ [ss]).getD SL.length sZ = ss by simp]
    exact ⟨s4, s5⟩
  · rw [show (SL ++ [ss]).getD i sZ = SL.getD i sZ by rw [List.getD_eq_getElem?_getD, List.getD_eq_getElem?_getD, List.getElem?_append_left (by omega)]]
    obtain ⟨r1, r2, r3⟩ := s2 i (by omega)
    exact ⟨r1, r3⟩
theorem lS.lB (h : lS u R x b a S g n st I OL SL ss) : lB u R x b a g n st I OL (SL ++ [ss]) := ⟨h.1, h.2.1, h.2.2.1, h.2.2.2.1.sts, h.2.2.2.2⟩
theorem lB.step (h : lB u R x b a g n st I OL SL) (k : kpE u w R x b X Y) (C : cR w R x b a g n st') (hc : st.2.2.1 ≤ st'.2.2.1) : lB w R x b a g n st' I OL SL := by
  obtain ⟨C0, hI, hO, hS, hl⟩ := h
  obtain ⟨m5, m7⟩ := kpE.sm C0.1 C0.2.1 C0.2.1.lt k
  have b0 := C0.2.1.1.1
  have hF1 : cF u w R x b (-1) _ _ := k.cf
  exact ⟨C, hI.sm m7, hO.cf hF1 m5 C0.1 C0.2.1 (.inl (by omega)), hS.cf hF1 m5 C0.1 C0.2.1 (fun i hi => by have := (hS.2.2 i hi).1; omega), by omega⟩
end jCops
