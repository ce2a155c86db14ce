/-! the component's operand: all of it -/
section jCoper2
variable {s t u u0 u1 w v' : jS} {R x b a a' n p p' p0 q r k c f v y e d o z K S X Y X' Y' P Q pl lo lo' ln y0 eX eY f0 f1 f2 : Int} {g fl : Int → Int} {l m : List Int} {NL : List (List Int)} {W : wR4} {st st' : pS} {I I' L L1 L2 : pI} {A : Int → Prop} {OL : List pvO} {SL : List pvS} {qq : jS × Bool × Int} {zz : pvO} {ss : pvS}
theorem x_isFirst (lk : lkS u R x g n W) (h7 : 0 ≤ W.1 ∧ W.1 ≤ 7) : m_X44_isFirst u R = some (@ite _ (isFst W) (Classical.propDecidable _) 1 0) := by
  have k5 : jf u 53 R 5 = kdO W.1 := lk.1.1
  have k6 : ¬ W.1 = 6 := lk.2.2.2.2
  have e5 : jf u 53 R 5 = 5 ↔ W.1 = 5 := by rw [k5]; unfold kdO; split <;> omega
  have e0 : jf u 53 R 5 = 0 ↔ W.1 = 0 := by rw [k5]; unfold kdO; split <;> omega
  rw [em_X44_isFirst]; unfold dm_X44_isFirst
  by_cases c5 : W.1 = 5
  · have v7 : jf u 53 R 7 = W.2.1 := lk.1.2.2.2.2 (by omega)
    rw [if_pos (e5.mpr c5), v7]
    by_cases c40 : W.2.1 = 40
    · rw [if_pos c40, if_pos (show isFst W by unfold isFst; omega), Wz_1]
    rw [if_neg c40]
    by_cases c45 : W.2.1 = 45
    · rw [if_pos c45, if_pos (show isFst W by unfold isFst; omega), Wz_1]
    rw [if_neg c45]
    by_cases c126 : W.2.1 = 126
    · rw [if_pos c126, if_pos (show isFst W by unfold isFst; omega), Wz_1]
    rw [if_neg c126]
    by_cases c37 : W.2.1 = 37
    · rw [if_pos c37, if_pos (show isFst W by unfold isFst; omega), Wz_1]
    · rw [if_neg c37, if_neg (show ¬ isFst W by unfold isFst; omega), Wz_0]
  · rw [if_neg (fun z => c5 (e5.mp z))]
    by_cases c0 : W.1 = 0
    · rw [if_pos (e0.mpr c0), if_neg (show ¬ isFst W by unfold isFst; omega), Wz_0]
    · rw [if_neg (fun z => c0 (e0.mp z)), if_pos (show isFst W by unfold isFst; omega), Wz_1]
/-- what an operand leaves -/
def oOut (u : jS) (R x b a S : Int) (g : Int → Int) (n p : Int) (I : pI) (OL : List pvO) (SL : List pvS) (ss : pvS) (pr : fE ⊕ (qS × pI × pvO)) (q : jS × Bool × Int) : Prop := match pr with
  | .inl e => cFm u R x b S g n p e.1 e.2 q
  | .inr z => q.2.1 = false ∧ (∃ hh, lS q.1 R x b a S g n (z.1.1, z.1.2.1, z.1.2.2, hh) (I ++ z.2.1) (OL ++ [z.2.2]) SL (sMany ss (ss.2.2.2.1 + 1))) ∧ cGo u q.1 R x b S g n p z.1.1 ∧ p < z.1.1
/-- the new operand is in the book -/
theorem x_op141 (h : vS u1 u R x b a b y0 g n p0 eX eY st I') (hS1 : stS u1 b SL S ss) (hO1 : opsC u1 b x OL) (I1 : rdI u1 R x b a g n) (B1 : bkI u1 b) (hS0 : S < jn u1) (hX : eX ≤ 20) (hY : eY ≤ 1000) (hlt : p0 < st.1) (hl : (I'.length : Int) ≤ st.2.2.1) (ho : opC u x y0 zz) (h8 : OL.length < 800) (hm : 0 ≤ ss.2.2.2.1 ∧ ss.2.2.2.1 ≤ 1000) : jE (u_X44_operand_141 u R S y0) fun q => q.2.1 = false ∧ lS q.1 R x b a S g n st I' (OL ++ [zz]) SL (sMany ss (ss.2.2.2.1 + 1)) ∧ cGo u1 q.1 R x b S g n p0 st.1 := by
  obtain ⟨C, hF, m5, hI, ⟨y1, y2, y3⟩, hp⟩ := h
  have hF' : cF u1 u R x b (-1) _ _ := cF.any hF
  have hr := C.1.1
  have hx := C.1.row
  have hb := B1.lt
  have kS := hS1.2.2.2.2.1
  have hO : opsC u b x OL := hO1.cf hF' m5 I1 B1 (.inl (by omega))
  have hSt : stS u b SL S ss := by
    obtain ⟨⟨s0, s1⟩, s2, s3, s4, s5⟩ := hS1
    refine ⟨⟨by rw [m5.1 5 (.inl rfl)]; exact s0, s1⟩, fun i hi => ?_, by rw [m5.2.2]; exact s3, s4, s5.cf hF' I1 B1 (by omega)⟩
    rw [m5.2.2]
    obtain ⟨r1, r2, r3⟩ := s2 i hi
    exact ⟨r1, r2, r3.cf hF' I1 B1 (by have := B1.1.1; omega)⟩
  obtain ⟨w, e1, e2, e3, e4⟩ := x_o141 C hI hO hSt hl ho (by omega) h8 hm
  rw [e1]
  refine jS_end ⟨rfl, e2, ?_⟩
  have B := C.2.1
  have nR := B.no (z := R) (.inl hr.2.2)
  have nx := B.no (z := x) (.inr (.inl hx.2.2.1))
  have kS2 := hSt.2.2.2.2.1.2.2
  have nRS : ¬ R = S := fun z => by rw [z] at hr; omega
  have nxS : ¬ x = S := fun z => by rw [z] at hx; omega
  have c1 : lkc w R (wd g n st.1) = lkc u R (wd g n st.1) := by unfold lkc; rw [e4 4]
  have c2 : lkq w R (wd g n st.1) = lkq u R (wd g n st.1) := by unfold lkq; rw [e4 4]
  have w1 : cF u1 w R x b S _ _ := (cF.any hF).wr (e3.mono (Int.le_refl _) (Int.le_refl _) fun z _ q => by omega) ⟨nR, by have := I1.1; omega, nRS⟩ ⟨nx, by have := I1.row; omega, nxS⟩
  unfold cGo
  rw [c1, c2]
  exact w1.mono (by omega) (by omega)
/-- an operand is made -/
theorem op_new (n0 : 0 ≤ jn u) (hB : jBd u 1 8) : ∃ v u1, jnw u 63 8 (jdf 63) = some (v, jn u) ∧ m_X46_init v (jn u) = some (u1, 0) ∧ jGw u u1 1 8 (fun _ => False) ∧ (jf u1 63 (jn u) 0 = 0 ∧ jf u1 63 (jn u) 1 = -1 ∧ jf u1 63 (jn u) 2 = 0 ∧ jf u1 63 (jn u) 4 = 0 ∧ jf u1 63 (jn u) 7 = jc u 192) ∧ jK u1 (jn u) = 63 ∧ jn u1 = jn u + 1 := by
  obtain ⟨b1, b2⟩ := hB
  have e1 : jnw u 63 8 (jdf 63) = some (jmk u 63 0 (jdf 63) 8, jn u) := by unfold jnw; exact if_pos ⟨n0, by omega, by omega⟩
  have Gm : jGw u (jmk u 63 0 (jdf 63) 8) 1 8 (fun _ => False) := (jGw.rfl (A := fun _ => False)).mk.mono (by omega) (by omega) fun _ _ z => z
  have fn : ∀ k, jf (jmk u 63 0 (jdf 63) 8) 63 (jn u) k = jdf 63 k := fun k => if_pos ⟨rfl, rfl⟩
  have kk : jK (jmk u 63 0 (jdf 63) 8) (jn u) = 63 := if_pos rfl
  have nn : jn (jmk u 63 0 (jdf 63) 8) = jn u + 1 := rfl
  have cc : jc (jmk u 63 0 (jdf 63) 8) = jc u := rfl
  refine ⟨_, jp (jp (jmk u 63 0 (jdf 63) 8) 63 (jn u) 1 (-1)) 63 (jn u) 7 (jc u 192), e1, ?_, ?_⟩
  · generalize jmk u 63 0 (jdf 63) 8 = v at *
    rw [em_X46_init]; unfold dm_X46_init
    rw [jck0_in n0, ← cc]
    rfl
  · generalize jmk u 63 0 (jdf 63) 8 = v at *
    refine ⟨(Gm.jp (.inr (Int.le_refl _))).jp (.inr (Int.le_refl _)), ⟨?_, ?_, ?_, ?_, ?_⟩, kk, nn⟩
    · rw [jf_neg (by omega), jf_neg (by omega), fn]; decide
    · rw [jf_neg (by omega), jf_pos ⟨rfl, rfl, rfl⟩]
    · rw [jf_neg (by omega), jf_neg (by omega), fn]; decide
    · rw [jf_neg (by omega), jf_neg (by omega), fn]; decide
    · rw [jf_pos ⟨rfl, rfl, rfl⟩]
theorem x_operand (h : lS u R x b a S g n st I OL SL ss) (M : cRn u R g n st.1) (hm : 0 ≤ ss.2.2.2.1 ∧ ss.2.2.2.1 ≤ 1000) : jE (m_X44_operand u R S) (oOut u R x b a S g n st.1 I OL SL ss (pvOp g n (st.1, st.2.1, st.2.2.1) I.length OL.length)) := by
  obtain ⟨C, hI, hO, hS, hl⟩ := h
  have hbg := C.1.2.2.2.2.2.2.2.1.1
  have hp0 := C.2.2.1.1
  have hp1 := C.2.2.1.2
  have hc := C.2.2.2.2.2.2.2.2.2
  have hw := wd_in hbg hp0 hp1
  have kS := hS.2.2.2.2.1
  rw [em_X44_operand]; unfold dm_X44_operand pvOp
  refine jE_bind.mpr (jE_mono (cL_look C (M.rm hp1)) fun q hq => ?_)
  show jE _ (oOut u R x b a S g n st.1 I OL SL ss (if (wd g n st.1).1 = 6 then _ else cif (¬ isFst (wd g n st.1)) _ _))
  rcases hq with ⟨h1, h2, h3⟩ | ⟨h1, h2, C1, lk, S1, M1⟩
  · rw [h2, if_pos h1]
    exact jS_end (cFm.flt (z := ((wd g n st.1).2.1, (wd g n st.1).2.2.1)) (h3.fm hp1 h2))
  rw [h2, if_neg h1]
  have h7 := hw.2.2.2.1 h1
  show jE ((m_X44_isFirst q.1 R).bind _) _
  rw [x_isFirst lk ⟨h7.2.2.1, h7.2.2.2.1⟩, Option.bind_some]
  have bd := cRm.bd C1 M1
  have G1 : cGo u q.1 R x b S g n st.1 st.1 := S1.cg (Int.le_refl _)
  have wr : ∀ f, ∃ qq, ((m_X44_wrong q.1 R f (jf q.1 53 R 6)).bind fun q => jck0 q.2 (some (q.1, true, q.2))) = some qq ∧ cFm u R x b S g n st.1 f (wd g n st.1).2.2.1 qq := fun f => by
    rw [c_thr ⟨bd.1, bd.2.le (by omega) (by omega)⟩, lk.2.2.1]
    exact ⟨_, rfl, (cFl.fm (cFl.thr C1) hp1 rfl).after G1⟩
  by_cases cf : isFst (wd g n st.1)
  rotate_left
  · rw [if_neg cf, if_pos rfl, cif_pos cf]
    obtain ⟨qq, w1, w2⟩ := wr 5
    rw [w1]
    exact jS_end w2
  rw [if_pos cf, if_neg (by decide), cif_neg (fun z => z cf)]
  have eb := C1.1.2.2.2.1
  have B1 := C1.2.1
  obtain ⟨m5, m7⟩ := kpE.sm C.1 C.2.1 (by have := C.2.1.lt; omega) S1
  have hI1 := hI.sm m7
  have hF1 : cF u q.1 R x b (-1) _ _ := S1.cf
  have hO1 : opsC q.1 b x OL := hO.cf hF1 m5 C.1 C.2.1 (.inl (by omega))
  have hS1 : stS q.1 b SL S ss := by
    obtain ⟨⟨s0, s1⟩, s2, s3, s4, s5⟩ := hS
    refine ⟨⟨by rw [m5.1 5 (.inl rfl)]; exact s0, s1⟩, fun i hi => ?_, by rw [m5.2.2]; exact s3, s4, s5.cf hF1 C.1 C.2.1 (by omega)⟩
    rw [m5.2.2]
    obtain ⟨r1, r2, r3⟩ := s2 i hi
    exact ⟨r1, r2, r3.cf hF1 C.1 C.2.1 (by have := B1.1.1; omega)⟩
  rw [eb, jrd_in B1.1.1 B1.1.2.2, Option.bind_some, hO1.1]
  by_cases c8 : (OL.length : Int) = 800
  · rw [if_pos c8, if_pos c8]
    obtain ⟨qq, w1, w2⟩ := wr 8
    rw [w1]
    exact jS_end w2
  rw [if_neg c8, if_neg c8]
  have h8 : OL.length < 800 := by have := hO1.2.1; omega
  obtain ⟨n0, b1, b2⟩ := bd
  obtain ⟨vv, u9, w1, w2, w3, ⟨s0, s1, s2, s4, s7⟩, w5, w6⟩ := op_new n0 (show jBd q.1 1 8 from ⟨by omega, by omega⟩)
  rw [w1, Option.bind_some, jck0_in n0, w2, Option.bind_some]
  simp only [jls]
  have hb := B1.lt
  have hr := C1.1.1
  have hx := C1.1.row
  have g9 : ∀ c y k, y < jn q.1 → jf u9 c y k = jf q.1 c y k := fun c y k hy => w3.2.2 c y k hy fun z => z
  have e6 : jf u9 53 R 6 = (wd g n st.1).2.2.1 := by rw [g9 _ _ _ hr.2.1]; exact lk.2.2.1
  rw [e6, jf_neg (by omega), g9 _ _ _ hr.2.1, eb]
  have kb : jK (jp u9 63 (jn q.1) 5 (wd g n st.1).2.2.1) b = 16 := by
    show jK u9 b = 16
    rw [w3.K (by omega)]; exact B1.1.2.2
  have e7 : jf (jp u9 63 (jn q.1) 5 (wd g n st.1).2.2.1) 16 b 7 = I.length := by
    rw [jf_neg (by omega), g9 _ _ _ (by omega), hI1.1]
  rw [jrd_in B1.1.1 kb, Option.bind_some, e7]
  have Gw : jGw q.1 (jp (jp u9 63 (jn q.1) 5 (wd g n st.1).2.2.1) 63 (jn q.1) 3 I.length) 1 8 (fun _ => False) := (w3.jp (.inr (Int.le_refl _))).jp (.inr (Int.le_refl _))
  have f0 : jf (jp (jp u9 63 (jn q.1) 5 (wd g n st.1).2.2.1) 63 (jn q.1) 3 I.length) 63 (jn q.1) 0 = 0 := by rw [jf_neg (by omega), jf_neg (by omega)]; exact s0
  have f1 : jf (jp (jp u9 63 (jn q.1) 5 (wd g n st.1).2.2.1) 63 (jn q.1) 3 I.length) 63 (jn q.1) 1 = -1 := by rw [jf_neg (by omega), jf_neg (by omega)]; exact s1
  have f2 : jf (jp (jp u9 63 (jn q.1) 5 (wd g n st.1).2.2.1) 63 (jn q.1) 3 I.length) 63 (jn q.1) 2 = 0 := by rw [jf_neg (by omega), jf_neg (by omega)]; exact s2
  have f3 : jf (jp (jp u9 63 (jn q.1) 5 (wd g n st.1).2.2.1) 63 (jn q.1) 3 I.length) 63 (jn q.1) 3 = I.length := by rw [jf_pos ⟨rfl, rfl, rfl⟩]
  have f4 : jf (jp (jp u9 63 (jn q.1) 5 (wd g n st.1).2.2.1) 63 (jn q.1) 3 I.length) 63 (jn q.1) 4 = 0 := by rw [jf_neg (by omega), jf_neg (by omega)]; exact s4
  have f5 : jf (jp (jp u9 63 (jn q.1) 5 (wd g n st.1).2.2.1) 63 (jn q.1) 3 I.length) 63 (jn q.1) 5 = (wd g n st.1).2.2.1 := by rw [jf_neg (by omega), jf_pos ⟨rfl, rfl, rfl⟩]
  have f7 : jf (jp (jp u9 63 (jn q.1) 5 (wd g n st.1).2.2.1) 63 (jn q.1) 3 I.length) 63 (jn q.1) 7 = jc q.1 192 := by rw [jf_neg (by omega), jf_neg (by omega)]; exact s7
  have kN : jK (jp (jp u9 63 (jn q.1) 5 (wd g n st.1).2.2.1) 63 (jn q.1) 3 I.length) (jn q.1) = 63 := w5
  have nN : jn (jp (jp u9 63 (jn q.1) 5 (wd g n st.1).2.2.1) 63 (jn q.1) 3 I.length) = jn q.1 + 1 := w6
  generalize jp (jp u9 63 (jn q.1) 5 (wd g n st.1).2.2.1) 63 (jn q.1) 3 (I.length : Int) = u2 at *
  have bk2 : bkF q.1 u2 b 1 8 := ⟨Gw.mono (Int.le_refl _) (Int.le_refl _) fun _ _ z => z.elim, fun k hk => Gw.2.2 _ _ _ (by omega) fun z => z⟩
  obtain ⟨C2, R2⟩ := C1.bk bk2
  have lk2 := lk.bk C1.1 B1 bk2
  obtain ⟨n5, n7⟩ := sm_gw (b := b) Gw hb (fun z q => q.elim)
  have nbR : ¬ b = R := fun z => by have := B1.1.2.2; rw [z] at this; omega
  have nbx : ¬ b = x := fun z => by have := B1.1.2.2; rw [z] at this; omega
  have V : vX q.1 R x b b g n st.1 := ⟨⟨hr.2.1, by omega, hb⟩, ⟨nbR, nbx, by omega⟩, M.after G1, n0, (C1.lk).1.2, (C1.lk).2.2, hp1⟩
  have c1 : ∀ W, lkc u2 R W = lkc q.1 R W := fun W => by unfold lkc; rw [R2 4]
  have c2 : ∀ W, lkq u2 R W = lkq q.1 R W := fun W => by unfold lkq; rw [R2 4]
  have v2 : vS q.1 u2 R x b a b (jn q.1) g n st.1 1 8 st I := by
    refine ⟨C2, ?_, n5, hI1.sm n7, ⟨Int.le_refl _, by omega, kN⟩, Int.le_refl _⟩
    rw [c1, c2]
    exact (cF.rfl.then (Gw.mono (Int.le_refl _) (Int.le_refl _) fun _ _ z => z.elim) hr.2.1 (by omega) ⟨nbR, nbx⟩).mono (by omega) (by omega)
  have G2 : opG u2 (jn q.1) 0 (-1) 0 (jf u2 63 (jn q.1)) := ⟨f0, f1, f2, fun j _ => rfl⟩
  have hs192 : pSg u2 (jc q.1 192) [] ∧ (x < jF u2 (jc q.1 192) 0 ∨ jK u2 (jF u2 (jc q.1 192) 0) = 4001) ∧ ¬ jF u2 (jc q.1 192) 0 = jf u2 8 x 0 := by
    have hC : pOs q.1 (jc q.1 192) (cS 192) := C1.1.2.2.2.2.2.2.2.2.2.2.1 192 (by decide)
    have ec : cS 192 = [] := by decide
    rw [ec] at hC
    have hp := hC.1.keep Gw (fun z => z) (fun z => z)
    refine ⟨hp.1, .inr (by rw [hp.2, Gw.K hC.1.2.2.1.2.1]; exact hC.2.2), ?_⟩
    rw [hp.2, Gw.2.2 8 x 0 (by omega) (fun z => z)]
    exact fun z => by have := hC.2.2; rw [z] at this; omega
  -- the end
  have fin : ∀ {w : jS} {st' : pS} {I' : pI} {zz : pvO} {eX eY : Int} {pr : fE ⊕ (qS × pI × pvO)} {L : pI}, vS q.1 w R x b a b (jn q.1) g n st.1 eX eY st' I' → eX ≤ 20 → eY ≤ 1000 → st.1 < st'.1 → (I'.length : Int) ≤ st'.2.2.1 → opC w x (jn q.1) zz → I' = I ++ L → pr = .inr ((st'.1, st'.2.1, st'.2.2.1), L, zz) → jE (u_X44_operand_141 w R S (jn q.1)) (oOut u R x b a S g n st.1 I OL SL ss pr) := fun {w st' I' zz eX eY pr L} h1 h2 h3 h4 h5 h6 h7 h8' => by
    subst h7; subst h8'
    refine jE_mono (x_op141 h1 hS1 hO1 C1.1 B1 (by have := hS1.2.2.2.2.1; omega) h2 h3 h4 h5 h6 h8 hm) fun q' hq' => ?_
    exact ⟨hq'.1, ⟨st'.2.2.2, hq'.2.1⟩, G1.trans hq'.2.2, h4⟩
  have k5 : jf u2 53 R 5 = kdO (wd g n st.1).1 := lk2.1.1
  have e4 : jf u2 53 R 5 = 4 ↔ (wd g n st.1).1 = 4 := by rw [k5]; unfold kdO; split <;> omega
  have e1 : jf u2 53 R 5 = 1 ↔ (wd g n st.1).1 = 1 ∨ (wd g n st.1).1 = 7 := by rw [k5]; unfold kdO; split <;> omega
  by_cases c4 : (wd g n st.1).1 = 4
  · rw [if_pos (e4.mpr c4), if_pos c4]
    have rs := lk2.1.2.2.2.1 c4
    obtain ⟨v3, R3⟩ := v2.wr (k := 0) (v := 3) V
    rw [R3 9]
    obtain ⟨v4, R4⟩ := v3.wr (k := 7) (v := jf u2 53 R 9) V
    have G4 : jGw u2 (jp (jp u2 63 (jn q.1) 0 3) 63 (jn q.1) 7 (jf u2 53 R 9)) 0 0 (fun z => z = jn q.1) := ((jGw.rfl (A := fun z => z = jn q.1)).jp (.inl rfl)).jp (.inl rfl)
    have lk4 : lkS (jp (jp u2 63 (jn q.1) 0 3) 63 (jn q.1) 7 (jf u2 53 R 9)) R x g n (wd g n st.1) := lk2.bk C2.1 C2.2.1 ⟨G4.mono (Int.le_refl _) (Int.le_refl _) fun z _ q => by unfold bkA; rw [q, kN]; omega, fun j _ => by rw [jf_neg (by omega), jf_neg (by omega)]⟩
    obtain ⟨w5, t5, v5, F5, R5, T5⟩ := v4.take V lk4 (by omega)
    rw [t5, Option.bind_some]
    have hnz := h7.2.2.2.2
    refine fin (L := []) (zz := (3, -1, 0, I.length, 0, (wd g n st.1).2.2.1, stB g n (wd g n st.1).2.2.1)) v5 (by omega) (by omega) (by show st.1 < (wd g n st.1).2.2.2; omega) hl ?_ (by simp) rfl
    have rs4 := lk4.1.2.2.2.1 c4
    have e5 := t5.symm.trans x_take
    have e5' : w5 = _ := congrArg Prod.fst (Option.some.inj e5)
    rw [R4, R3] at rs4
    have G5 : jGw (jp (jp u2 63 (jn q.1) 0 3) 63 (jn q.1) 7 (jf u2 53 R 9)) w5 0 0 (fun z => z = R) := by
      rw [e5']; exact ((jGw.rfl (A := fun z => z = R)).jp (.inl rfl)).jp (.inl rfl)
    have o4 : opC (jp (jp u2 63 (jn q.1) 0 3) 63 (jn q.1) 7 (jf u2 53 R 9)) x (jn q.1) (3, -1, 0, I.length, 0, (wd g n st.1).2.2.1, stB g n (wd g n st.1).2.2.1) := by
      refine ⟨⟨n0, by show jn q.1 < jn u2; omega, kN⟩, ⟨?_, ?_, ?_, ?_, ?_, ?_⟩, ?_, ?_⟩
      · rw [jf_neg (by omega), jf_pos ⟨rfl, rfl, rfl⟩]
      · rw [jf_neg (by omega), jf_neg (by omega)]; exact f1
      · rw [jf_neg (by omega), jf_neg (by omega)]; exact f2
      · rw [jf_neg (by omega), jf_neg (by omega)]; exact f3
      · rw [jf_neg (by omega), jf_neg (by omega)]; exact f4
      · rw [jf_neg (by omega), jf_neg (by omega)]; exact f5
      · rw [jf_pos ⟨rfl, rfl, rfl⟩]; exact rs4.1
      · rw [jf_pos ⟨rfl, rfl, rfl⟩]; exact ⟨.inl rs4.2.2.2.1, rs4.2.2.2.2⟩
    have kR4 : jK (jp (jp u2 63 (jn q.1) 0 3) 63 (jn q.1) 7 (jf u2 53 R 9)) R = 53 := v4.1.1.1.2.2
    have kx4 := v4.1.1.row
    exact o4.gw G5 (fun z q => by rw [q]; omega) ⟨kx4.2.1, kx4.2.2.1⟩
  rw [if_neg (fun z => c4 (e4.mp z)), if_neg c4]
  have e136 : pvReg g (wd g n st.1) = -1 → jE (u_X44_operand_136 u2 R S (jn q.1)) (oOut u R x b a S g n st.1 I OL SL ss (match pvVal g n (st.1, st.2.1, st.2.2.1) with | .inl e => .inl e | .inr v => .inr (v.1, v.2.1, (v.2.2.1, v.2.2.2.1, v.2.2.2.2, (I.length : Int), (v.2.1.length : Int), (wd g n st.1).2.2.1, [])))) := fun hr => by
    rw [eu_X44_operand_136]; unfold du_X44_operand_136
    refine jE_bind.mpr (jE_mono (x_valued v2 V (by omega) (by omega) lk2 G2 f3 hl) fun q4 hq4 => ?_)
    cases hV : pvVal g n (st.1, st.2.1, st.2.2.1) with
    | inl e =>
      rw [hV] at hq4
      rw [show q4.2.1 = true from hq4.1]
      exact jS_end ((cFm.flt (z := e) hq4).any.after G1)
    | inr v =>
      rw [hV] at hq4
      obtain ⟨r1, ⟨hh, v4⟩, G4, f44⟩ := hq4
      obtain ⟨o1, o2, o3, o4, o5⟩ := pvVal_ok (q := (st.1, st.2.1, st.2.2.1)) hbg hp0 hp1 hc hV
      have olt := pvVal_lt (q := (st.1, st.2.1, st.2.2.1)) hbg hp0 hp1 h1 hV
      have o3' : v.1.2.2 = st.2.2.1 + v.2.1.length := o3
      rw [r1]
      refine fin (L := v.2.1) v4 (by omega) (by omega) olt (by rw [List.length_append]; show ((I.length + v.2.1.length : Nat) : Int) ≤ v.1.2.2; omega) ?_ rfl rfl
      have nn := v4.2.1.1.1
      have hF4 : cF q.1 q4.1 R x b (-1) _ _ := cF.any v4.2.1
      have hs4 : pSg q4.1 (jc q.1 192) [] ∧ (x < jF q4.1 (jc q.1 192) 0 ∨ jK q4.1 (jF q4.1 (jc q.1 192) 0) = 4001) ∧ ¬ jF q4.1 (jc q.1 192) 0 = jf q4.1 8 x 0 := by
        have hC : pOs q.1 (jc q.1 192) (cS 192) := C1.1.2.2.2.2.2.2.2.2.2.2.1 192 (by decide)
        have ec : cS 192 = [] := by decide
        rw [ec] at hC
        have g4 := hF4.gw
        have kf : ∀ z, 0 ≤ z → jK q.1 z = 3009 ∨ jK q.1 z = 4001 → ¬ fA q.1 R x b (-1) z := fun z hz hz' q' => by
          rcases fA_k C1.1 B1 (.inl (by omega)) hz q' with e | e
          · rw [e] at hz'; omega
          · omega
        have hp := hC.1.keep g4 (kf _ hC.1.1.1 (.inl hC.2.1)) (kf _ hC.1.2.2.1.1 (.inr hC.2.2))
        refine ⟨hp.1, .inr (by rw [hp.2, g4.K hC.1.2.2.1.2.1]; exact hC.2.2), ?_⟩
        rw [hp.2]
        have hx4 := v4.1.1.row
        exact fun z => by
          have e1 := hC.2.2
          have e2 := (g4.K hC.1.2.2.1.2.1)
          rw [z] at e2 e1; rw [← e2] at e1; omega
      refine ⟨⟨n0, v4.2.2.2.2.1.2.1, v4.2.2.2.2.1.2.2⟩, ⟨G4.1, G4.2.1, G4.2.2.1, (G4.2.2.2 3 (.inl rfl)).trans f3, f44, (G4.2.2.2 5 (.inr (.inl rfl))).trans f5⟩, ?_, ?_⟩
      · rw [G4.2.2.2 7 (.inr (.inr rfl)), f7]; exact hs4.1
      · rw [G4.2.2.2 7 (.inr (.inr rfl)), f7]; exact hs4.2
  by_cases ck : (wd g n st.1).1 = 1 ∨ (wd g n st.1).1 = 7
  rotate_left
  · rw [if_neg (fun z => ck (e1.mp z)), if_neg (fun z => z (by unfold pvReg; rw [if_neg ck]))]
    exact e136 (by unfold pvReg; rw [if_neg ck])
  have rg : pvReg g (wd g n st.1) = rgO (nmO g (wd g n st.1).2.2.1 (wd g n st.1).2.2.2) := by unfold pvReg; rw [if_pos ck]
  rw [if_pos (e1.mpr ck), (lk2.1.2.2.1 ck).2, ← rg]
  by_cases cr : pvReg g (wd g n st.1) = -1
  · rw [if_pos cr, if_neg (fun z => z cr)]
    exact e136 cr
  rw [if_neg cr, if_pos cr]
  obtain ⟨v3, R3⟩ := v2.wr (k := 0) (v := 1) V
  rw [R3 7, (lk2.1.2.2.1 ck).2, ← rg]
  obtain ⟨v4, R4⟩ := v3.wr (k := 1) (v := pvReg g (wd g n st.1)) V
  have G4 : jGw u2 (jp (jp u2 63 (jn q.1) 0 1) 63 (jn q.1) 1 (pvReg g (wd g n st.1))) 0 0 (fun z => z = jn q.1) := ((jGw.rfl (A := fun z => z = jn q.1)).jp (.inl rfl)).jp (.inl rfl)
  have lk4 : lkS (jp (jp u2 63 (jn q.1) 0 1) 63 (jn q.1) 1 (pvReg g (wd g n st.1))) R x g n (wd g n st.1) := lk2.bk C2.1 C2.2.1 ⟨G4.mono (Int.le_refl _) (Int.le_refl _) fun z _ q => by unfold bkA; rw [q, kN]; omega, fun j _ => by rw [jf_neg (by omega), jf_neg (by omega)]⟩
  obtain ⟨w5, t5, v5, F5, R5, T5⟩ := v4.take V lk4 (by omega)
  rw [t5, Option.bind_some]
  have hnz := h7.2.2.2.2
  refine fin (L := []) (zz := (1, pvReg g (wd g n st.1), 0, I.length, 0, (wd g n st.1).2.2.1, [])) v5 (by omega) (by omega) (by show st.1 < (wd g n st.1).2.2.2; omega) hl ?_ (by simp) rfl
  have e5 := t5.symm.trans x_take
  have e5' : w5 = _ := congrArg Prod.fst (Option.some.inj e5)
  have G5 : jGw (jp (jp u2 63 (jn q.1) 0 1) 63 (jn q.1) 1 (pvReg g (wd g n st.1))) w5 0 0 (fun z => z = R) := by
    rw [e5']; exact ((jGw.rfl (A := fun z => z = R)).jp (.inl rfl)).jp (.inl rfl)
  have n192 : ¬ jc q.1 192 = jn q.1 ∧ ¬ jF u2 (jc q.1 192) 0 = jn q.1 := by
    have hC : pOs q.1 (jc q.1 192) (cS 192) := C1.1.2.2.2.2.2.2.2.2.2.2.1 192 (by decide)
    have hk := hs192.1.2.2.1.2.2
    exact ⟨fun z => by have := hC.1.1.2.1; omega, fun z => by rw [z] at hk; omega⟩
  obtain ⟨p1, p2⟩ := hs192.1.keep G4 (fun z => n192.1 z) (fun z => n192.2 z)
  have o4 : opC (jp (jp u2 63 (jn q.1) 0 1) 63 (jn q.1) 1 (pvReg g (wd g n st.1))) x (jn q.1) (1, pvReg g (wd g n st.1), 0, I.length, 0, (wd g n st.1).2.2.1, []) := by
    refine ⟨⟨n0, by show jn q.1 < jn u2; omega, kN⟩, ⟨?_, ?_, ?_, ?_, ?_, ?_⟩, ?_, ?_⟩
    · rw [jf_neg (by omega), jf_pos ⟨rfl, rfl, rfl⟩]
    · rw [jf_pos ⟨rfl, rfl, rfl⟩]
    · rw [jf_neg (by omega), jf_neg (by omega)]; exact f2
    · rw [jf_neg (by omega), jf_neg (by omega)]; exact f3
    · rw [jf_neg (by omega), jf_neg (by omega)]; exact f4
    · rw [jf_neg (by omega), jf_neg (by omega)]; exact f5
    · rw [jf_neg (by omega), jf_neg (by omega), f7]; exact p1
    · rw [jf_neg (by omega), jf_neg (by omega), f7, p2, jf_neg (by omega), jf_neg (by omega)]; exact hs192.2
  have kR4 : jK (jp (jp u2 63 (jn q.1) 0 1) 63 (jn q.1) 1 (pvReg g (wd g n st.1))) R = 53 := v4.1.1.1.2.2
  have kx4 := v4.1.1.row
  exact o4.gw G5 (fun z q => by rw [q]; omega) ⟨kx4.2.1, kx4.2.2.1⟩
end jCoper2
