/-! the component's lines: one, all *-/
section jCline3
variable {s t u u0 u1 w v' : jS} {R x b a a' n p p' p'' p0 q r k c f v y e d o z K S X Y X' Y' P Q pl lo lo' ln y0 eX eY f0 f1 f2 : Int} {g fl : Int → Int} {l m : List Int} {NL : List (List Int)} {W : wR4} {st st' : pS} {I I' L L1 L2 : pI} {A : Int → Prop} {OL : List pvO} {SL : List pvS} {qq : jS × Bool × Int} {zz : pvO} {ss : pvS}
theorem x_lines : ∀ (m : Nat), lnP R x b a g n ln m
  | 0 => fun u st I OL SL hm h lk M hl => absurd hm (by have := h.1.2.2.1.2; omega)
  | mm + 1 => fun u st I OL SL hm h lk M hl => by
    have ih := x_lines mm
    have C := h.1
    have hp1 := C.2.2.1.2
    have hw := wd_in C.1.2.2.2.2.2.2.2.1.1 C.2.2.1.1 hp1
    have c6 : ¬ (wd g n st.1).1 = 6 := lk.2.2.2.2
    have h7 := hw.2.2.2.1 c6
    have hn640 := C.1.2.2.2.2.2.2.2.1.2
    have hp00 := C.2.2.1.1
    have bd := cRm.bd C (M.rm hp1)
    have k5 : jf u 53 R 5 = kdO (wd g n st.1).1 := lk.1.1
    have e0 : jf u 53 R 5 = 0 ↔ (wd g n st.1).1 = 0 := by rw [k5]; unfold kdO; split <;> omega
    have e2 : jf u 53 R 5 = 2 ↔ (wd g n st.1).1 = 2 := by rw [k5]; unfold kdO; split <;> omega
    have eB : jlpW (jc1 b_X44_line_4) [R] u = (b_X44_line_4 u R).bind lnK := by
      rw [jlpW_st]
      show (b_X44_line_4 u R).bind _ = _
      cases b_X44_line_4 u R with
      | none => rfl
      | some x => cases x <;> rfl
    rw [eB]
    unfold b_X44_line_4
    by_cases c0 : (wd g n st.1).1 = 0
    · rw [if_pos (e0.mpr c0), show pvLine g n ln (mm + 1) ((st.1, st.2.1, st.2.2.1), I, OL, SL) = .inr ((st.1, st.2.1, st.2.2.1), I, OL, SL) from (if_neg c6).trans (if_pos c0)]
      exact jS_end ⟨rfl, ⟨st.2.2.2, h⟩, cSt.refl.cg (Int.le_refl _), Int.le_refl _, lk, c0⟩
    rw [if_neg (fun z => c0 (e0.mp z)), lk.2.2.1, lk.1.2.1]
    by_cases c2 : (wd g n st.1).1 = 2 ∧ (wd g n st.1).2.2.2 = (wd g n st.1).2.2.1 + 1
    rotate_left
    · have e68 := x_l68 ih hm h lk M hl c0 c2
      by_cases c22 : (wd g n st.1).1 = 2
      · rw [if_pos (e2.mpr c22), W32_in (by omega) (by omega), if_neg (fun z => c2 ⟨c22, z⟩)]; exact e68
      · rw [if_neg (fun z => c22 (e2.mp z))]; exact e68
    rw [if_pos (e2.mpr c2.1), W32_in (by omega) (by omega), if_pos c2.2, x_room h ⟨bd.1, bd.2.le (by omega) (by omega)⟩, Option.bind_some]
    have eL : pvLine g n ln (mm + 1) ((st.1, st.2.1, st.2.2.1), I, OL, SL) = if (SL.length : Int) = 400 then .inl (8, (wd g n st.1).2.2.1)
      else match pvNeed g n (wd g n st.1).2.2.2 58 with
        | .inl e => .inl e
        | .inr p => pvLine g n ln mm ((p, st.2.1, st.2.2.1), I, OL, SL ++ [((1 : Int), (wd g n st.1).2.1, (OL.length : Int), (0 : Int), (wd g n st.1).2.2.1, ln)]) := (if_neg c6).trans ((if_neg c0).trans (if_pos c2))
    rw [eL]
    by_cases c400 : (SL.length : Int) = 400
    · rw [if_pos c400, if_pos c400]
      exact jS_end ((cFl.fm (cFl.thr C) hp1 rfl))
    rw [if_neg c400, if_neg c400]
    show jE ((jth false _ _).bind lnK) _
    have v7 : jf u 53 R 7 = (wd g n st.1).2.1 := lk.1.2.2.2.2 (.inl c2.1)
    rw [jth_ff]
    show jE (((m_X44_take u R).bind _ : Option ((jS × List Int) ⊕ (jS × Bool × Int))).bind lnK) _
    have h0 : 0 ≤ (wd g n st.1).2.2.2 := by have := hw.1; have := C.2.2.1.1; omega
    have hlt : st.1 < (wd g n st.1).2.2.2 := by have := hw.1; omega
    obtain ⟨t1, t2, t3⟩ := C.take lk ⟨h7.2.1, h0⟩
    have S2 : cSt u (jp (jp u 53 R 2 (jf u 53 R 8)) 53 R 4 0) R x b g n st.1 (wd g n st.1).2.2.2 := cSt.tk C lk c0 t2 t3 (by omega) (by omega)
    have h2 := h.step S2 t1 (Int.le_refl _)
    have l2 : jf (jp (jp u 53 R 2 (jf u 53 R 8)) 53 R 4 0) 53 R 3 = ln := by rw [S2.2.2.2.2 3 (by omega)]; exact hl
    have M2 : cRn _ R g n (wd g n st.1).2.2.2 := M.after (S2.cg (S := b) (by omega))
    rw [x_take, Option.bind_some]
    generalize jp (jp u 53 R 2 (jf u 53 R 8)) 53 R 4 0 = w2 at *
    refine jE_bind.mpr (jE_bind.mpr (jE_mono (x_need (c := 58) h2.1 (M2.rm h7.2.1)) fun q hq => ?_))
    have hq' : if (wd g n (wd g n st.1).2.2.2).1 = 6 then q.2.1 = true ∧ cFl w2 R x b g n (wd g n st.1).2.2.2 (wd g n (wd g n st.1).2.2.2).2.1 (wd g n (wd g n st.1).2.2.2).2.2.1 q
      else if (wd g n (wd g n st.1).2.2.2).1 = 5 ∧ (wd g n (wd g n st.1).2.2.2).2.1 = 58 then q.2 = (false, 0) ∧ cR q.1 R x b a g n ((wd g n (wd g n st.1).2.2.2).2.2.2, st.2) ∧ cSt w2 q.1 R x b g n (wd g n st.1).2.2.2 (wd g n (wd g n st.1).2.2.2).2.2.2 ∧ (wd g n st.1).2.2.2 + 1 ≤ (wd g n (wd g n st.1).2.2.2).2.2.2
      else q.2.1 = true ∧ cFl w2 R x b g n (wd g n st.1).2.2.2 5 (wd g n (wd g n st.1).2.2.2).2.2.1 q := hq
    clear hq
    by_cases d6 : (wd g n (wd g n st.1).2.2.2).1 = 6
    · rw [if_pos d6] at hq'
      rw [hq'.1, show pvNeed g n (wd g n st.1).2.2.2 58 = .inl ((wd g n (wd g n st.1).2.2.2).2.1, (wd g n (wd g n st.1).2.2.2).2.2.1) from if_pos d6]
      exact jS_end (jS_end (cFm.flt (z := ((wd g n (wd g n st.1).2.2.2).2.1, (wd g n (wd g n st.1).2.2.2).2.2.1)) ((cFl.fm hq'.2 h7.2.1 hq'.1).after (S2.cg (by omega)))))
    rw [if_neg d6] at hq'
    by_cases c58 : (wd g n (wd g n st.1).2.2.2).1 = 5 ∧ (wd g n (wd g n st.1).2.2.2).2.1 = 58
    rotate_left
    · rw [if_neg c58] at hq'
      rw [hq'.1, show pvNeed g n (wd g n st.1).2.2.2 58 = .inl (5, (wd g n (wd g n st.1).2.2.2).2.2.1) from (if_neg d6).trans (if_neg c58)]
      exact jS_end (jS_end (cFm.flt (z := (5, (wd g n (wd g n st.1).2.2.2).2.2.1)) ((cFl.fm hq'.2 h7.2.1 hq'.1).after (S2.cg (by omega)))))
    rw [if_pos c58] at hq'
    obtain ⟨r1, C3, S3, l3⟩ := hq'
    rw [r1, show pvNeed g n (wd g n st.1).2.2.2 58 = .inr (wd g n (wd g n st.1).2.2.2).2.2.2 from (if_neg d6).trans (if_pos c58)]
    show jE (jth false _ _) _
    rw [jth_ff]
    have h3 := h2.step S3 C3 (Int.le_refl _)
    have S7 := S2.trans S3
    have l7 : jf q.1 53 R 3 = ln := by rw [S3.2.2.2.2 3 (by omega)]; exact l2
    obtain ⟨w7, s1, s2, s3, s4, s5, s6⟩ := x_stat (u1 := u) (p0 := st.1) (o := 1) (v := jf u 53 R 7) (pl := (wd g n st.1).2.2.1) h3 c400 S7 (by show st.1 < (wd g n (wd g n st.1).2.2.2).2.2.2; omega) M l7 C.1.1.2.1 (by have := C.1.row; omega)
    refine jE_bind.mp ?_
    show jE (((m_X44_statement q.1 R 1 (jf u 53 R 7) (wd g n st.1).2.2.1).bind _ : Option ((jS × List Int) ⊕ (jS × Bool × Int))).bind lnK) _
    rw [s1, Option.bind_some]
    have f := x_162 (m := mm) ih (by show (n + 1 - (wd g n (wd g n st.1).2.2.2).2.2.2).toNat ≤ mm; omega) s2.lB s4 s5
    rw [v7] at f
    exact jE_mono f fun q' hq' => hq'.after s3 (by show st.1 ≤ (wd g n (wd g n st.1).2.2.2).2.2.2; omega)
theorem x_line (h : lB u R x b a g n st I OL SL) (M : cRn u R g n st.1) (hl : jf u 53 R 3 = ln) : jE (m_X44_line u R) (lOut u R x b a g n st.1 (pvLine g n ln (n + 1 - st.1).toNat ((st.1, st.2.1, st.2.2.1), I, OL, SL))) := by
  have C := h.1
  have hp1 := C.2.2.1.2
  rw [em_X44_line]; unfold dm_X44_line
  obtain ⟨m, hm⟩ : ∃ m : Nat, (n + 1 - st.1).toNat = m + 1 := ⟨(n - st.1).toNat, by omega⟩
  refine jE_bind.mpr (jE_mono (cL_look C (M.rm hp1)) fun q hq => ?_)
  rcases hq with ⟨h1, h2, h3⟩ | ⟨h1, h2, C1, lk, S1, M1⟩
  · rw [h2, hm, show pvLine g n ln (m + 1) ((st.1, st.2.1, st.2.2.1), I, OL, SL) = .inl ((wd g n st.1).2.1, (wd g n st.1).2.2.1) from if_pos h1]
    exact jS_end (cFm.flt (z := ((wd g n st.1).2.1, (wd g n st.1).2.2.1)) (h3.fm hp1 h2))
  rw [h2]
  show jE (jth false _ _) _
  rw [jth_ff, eu_X44_line_4]; unfold du_X44_line_4
  have G1 : cGo u q.1 R x b b g n st.1 st.1 := S1.cg (Int.le_refl _)
  exact jE_mono (x_lines _ q.1 st I OL SL (Nat.le_refl _) (h.step S1 C1 (Int.le_refl _)) lk (M.after G1) (by rw [S1.2.2.2.2 3 (by omega)]; exact hl)) fun q' hq' => hq'.after G1 (Int.le_refl _)
/-- what all lines leave -/
def bkC (u : jS) (b x : Int) (NL : List (List Int)) (I : pI) (OL : List pvO) (SL : List pvS) : Prop := bkI u b ∧ nmC u b x NL ∧ itC u b I ∧ opsC u b x OL ∧ stsC u b SL
def aOut (u : jS) (R x b : Int) (g : Int → Int) (n p : Int) (pr : fE ⊕ pvB) (q : jS × Bool × Int) : Prop := jGw u q.1 (40 * (n - p) + 10 - lkc u R (wd g n p)) (5400 * (n - p) + 100 - lkq u R (wd g n p)) (fA u R x b b) ∧ match pr with
  | .inl e => rFl R e.1 e.2 q
  | .inr z => q.2.1 = false ∧ jf q.1 53 R 10 = b ∧ bkC q.1 b x z.1.2.1 z.2.1 z.2.2.1 z.2.2.2
/-- slots of the reader change: the book stays -/
theorem bkC.sl {S' : Int → Prop} (h : bkC u b x NL I OL SL) (k : rSl u w R S') (hR : jK u R = 53) : bkC w b x NL I OL SL := by
  obtain ⟨B, N, hI, hO, hS⟩ := h
  have nR : ∀ z, ¬ jK u z = 53 → ¬ z = R := fun z hz q => by rw [q] at hz; omega
  have kx : jf w 8 x 0 = jf u 8 x 0 := k.2 _ _ _ (by omega)
  have F : ∀ c y j, ¬ c = 53 → jf w c y j = jf u c y j := fun c y j hc => k.2 _ _ _ (by omega)
  have pk : ∀ y l, pSg u y l → pSg w y l ∧ jF w y 0 = jF u y 0 := fun y l hp => hp.keep k.gw (fun z => by have := hp.1.2.2; have z' : y = R := z; rw [z'] at this; omega) (fun z => by have := hp.2.2.1.2.2; have z' : jF u y 0 = R := z; rw [z'] at this; omega)
  refine ⟨?_, ?_, ?_, ?_, ?_⟩
  · obtain ⟨⟨h1, h2, h3⟩, ⟨f0, f1, f2, f3, f4⟩, ⟨a1, a2⟩, ⟨b1, b2⟩, ⟨c1, c2⟩, ⟨d1, d2⟩, e1, e2⟩ := B
    have K : jK w = jK u := k.1.1
    have N' : jN w = jN u := k.1.2.1
    have nn : jn w = jn u := k.1.2.2.1
    exact ⟨⟨h1, by omega, by rw [K]; exact h3⟩, ⟨by rw [F _ _ _ (by omega)]; exact f0, by rw [F _ _ _ (by omega)]; exact f1, by rw [F _ _ _ (by omega)]; exact f2, by rw [F _ _ _ (by omega)]; exact f3, by rw [F _ _ _ (by omega)]; exact f4⟩, ⟨by rw [K]; exact a1, by rw [N']; exact a2⟩, ⟨by rw [K]; exact b1, by rw [N']; exact b2⟩, ⟨by rw [K]; exact c1, by rw [N']; exact c2⟩, ⟨by rw [K]; exact d1, by rw [N']; exact d2⟩, by rw [K]; exact e1, by rw [N']; exact e2⟩
  · refine ⟨by rw [F _ _ _ (by omega)]; exact N.1, N.2.1, fun i hi => ?_⟩
    rw [F _ _ _ (by omega)]
    obtain ⟨⟨t1, t2, ⟨t3, t4⟩, t5⟩, h9⟩ := N.2.2 i hi
    obtain ⟨p1, p2⟩ := pk _ _ t1
    have hF : ∀ j, jF w (jf u 1026 (b + 5) i) j = jF u (jf u 1026 (b + 5) i) j := fun j => k.gw.F t1.1.2.1 (fun q => nR _ (by omega) q) j
    exact ⟨⟨p1, by rw [k.1.1]; exact t2, ⟨by rw [hF]; exact t3, by rw [hF]; exact t4⟩, by rw [p2, kx]; exact t5⟩, h9⟩
  · exact ⟨by rw [F _ _ _ (by omega)]; exact hI.1, fun i hi => by rw [F _ _ _ (by omega), F _ _ _ (by omega)]; exact hI.2 i hi⟩
  · refine ⟨by rw [F _ _ _ (by omega)]; exact hO.1, hO.2.1, fun i hi => ?_⟩
    rw [F _ _ _ (by omega)]
    obtain ⟨r1, ⟨h0, h1, h2⟩, h3, h4, h5⟩ := hO.2.2 i hi
    obtain ⟨p1, p2⟩ := pk _ _ h4
    refine ⟨r1, ⟨h0, by rw [k.1.2.2.1]; exact h1, by rw [k.1.1]; exact h2⟩, by rw [F _ _ _ (by omega), F _ _ _ (by omega), F _ _ _ (by omega), F _ _ _ (by omega), F _ _ _ (by omega), F _ _ _ (by omega)]; exact h3, by rw [F _ _ _ (by omega)]; exact p1, by rw [F _ _ _ (by omega), p2, kx, k.1.1]; exact h5⟩
  · refine ⟨by rw [F _ _ _ (by omega)]; exact hS.1, hS.2.1, fun i hi => ?_⟩
    rw [F _ _ _ (by omega)]
    obtain ⟨r1, ⟨h0, h1, h2⟩, h3⟩ := hS.2.2 i hi
    exact ⟨r1, ⟨h0, by rw [k.1.2.2.1]; exact h1, by rw [k.1.1]; exact h2⟩, by rw [F _ _ _ (by omega), F _ _ _ (by omega), F _ _ _ (by omega), F _ _ _ (by omega), F _ _ _ (by omega), F _ _ _ (by omega)]; exact h3⟩
/-- the line's end is passed -/
theorem x_all30 (h : lB u R x b a g n st I OL SL) (lk : lkS u R x g n (wd g n st.1)) (z0 : (wd g n st.1).1 = 0) (hl : jf u 53 R 3 = ln) (l0 : 0 ≤ ln ∧ ln ≤ 100000) : ∃ w, u_X44_all_30 u R y0 = some (.inl (w, [R, y0])) ∧ rSl u w R (fun k => k = 2 ∨ k = 3 ∨ k = 4) ∧ jf w 53 R 2 = (wd g n st.1).2.2.1 + 1 ∧ jf w 53 R 4 = 0 ∧ jf w 53 R 3 = ln + 1 := by
  have C := h.1
  have hw := wd_in C.1.2.2.2.2.2.2.2.1.1 C.2.2.1.1 C.2.2.1.2
  have hn640 := C.1.2.2.2.2.2.2.2.1.2
  have hp00 := C.2.2.1.1
  rw [eu_X44_all_30]; unfold du_X44_all_30
  rw [x_take, Option.bind_some]
  simp only [jls]
  have K2 : rSl u (jp (jp u 53 R 2 (jf u 53 R 8)) 53 R 4 0) R (fun k => k = 2 ∨ k = 3 ∨ k = 4) := (rSl.rfl.jp (.inl rfl)).jp (.inr (.inr rfl))
  have f6 : jf (jp (jp u 53 R 2 (jf u 53 R 8)) 53 R 4 0) 53 R 6 = (wd g n st.1).2.2.1 := by rw [jf_neg (by omega), jf_neg (by omega)]; exact lk.2.2.1
  have f3 : jf (jp (jp u 53 R 2 (jf u 53 R 8)) 53 R 4 0) 53 R 3 = ln := by rw [jf_neg (by omega), jf_neg (by omega)]; exact hl
  have f4 : jf (jp (jp u 53 R 2 (jf u 53 R 8)) 53 R 4 0) 53 R 4 = 0 := jf_pos ⟨rfl, rfl, rfl⟩
  generalize jp (jp u 53 R 2 (jf u 53 R 8)) 53 R 4 0 = w2 at *
  rw [f6, jf_neg (by omega), f3, W32_in (by omega) (by omega), W32_in (by omega) (by omega)]
  exact ⟨_, rfl, (K2.jp (.inl rfl)).jp (.inr (.inl rfl)), by rw [jf_neg (by omega), jf_pos ⟨rfl, rfl, rfl⟩], by rw [jf_neg (by omega), jf_neg (by omega)]; exact f4, jf_pos ⟨rfl, rfl, rfl⟩⟩
theorem x_allLoop : ∀ (m : Nat) (u : jS) (st : pS) (I : pI) (OL : List pvO) (SL : List pvS) (ln : Int), (n + 1 - st.1).toNat ≤ m → lB u R x b a g n st I OL SL → cRn u R g n st.1 → jf u 53 R 3 = ln → 0 ≤ ln → ln ≤ st.1 → jE (jlpW (jc2 b_X44_all_2) [R, 1] u) (aOut u R x b g n st.1 (pvAll g n m ln ((st.1, st.2.1, st.2.2.1), I, OL, SL)))
  | 0 => fun u st I OL SL ln hm h M hl l0 l1 => absurd hm (by have := h.1.2.2.1.2; omega)
  | m + 1 => fun u st I OL SL ln hm h M hl l0 l1 => by
    have C := h.1
    have hp1 := C.2.2.1.2
    have hp0 := C.2.2.1.1
    have hbg := C.1.2.2.2.2.2.2.2.1.1
    have hn640 := C.1.2.2.2.2.2.2.2.1.2
    have hr := C.1.1
    obtain ⟨C', hC⟩ : ∃ C, C = jc2 b_X44_all_2 := ⟨_, rfl⟩
    have e1 : C' [R, 1] u = b_X44_all_2 u R 1 := by rw [hC]; rfl
    have e2 : ∀ w, C' [R, 0] w = jinr (some (w, false, 0)) := fun w => by rw [hC]; rfl
    rw [← hC, jlpW_st, e1]
    unfold b_X44_all_2
    rw [if_neg (by decide)]
    refine jE_bind.mpr (jE_bind.mpr (jE_mono (x_line h M hl) fun q hq => ?_))
    show jE _ (fun y => jE _ (aOut u R x b g n st.1 (match pvLine g n ln (n + 1 - st.1).toNat ((st.1, st.2.1, st.2.2.1), I, OL, SL) with | .inl e => .inl e | .inr z => if (wd g n z.1.1).2.2.1 < n then pvAll g n m (ln + 1) (((wd g n z.1.1).2.2.1 + 1, z.1.2), z.2) else .inr z)))
    cases hP : pvLine g n ln (n + 1 - st.1).toNat ((st.1, st.2.1, st.2.2.1), I, OL, SL) with
    | inl e =>
      rw [hP] at hq
      rw [show q.2.1 = true from hq.1]
      obtain ⟨g1, g2, g3⟩ := hq
      refine jS_inr (jS_end (jS_end ⟨g3, ?_⟩))
      obtain ⟨q1, q2, q3⟩ := q
      have : q2 = true := g1
      subst this
      exact g2
    | inr z =>
      rw [hP] at hq
      obtain ⟨r1, ⟨hh, h1⟩, G1, l1', lk1, z1⟩ := hq
      rw [r1]
      show jE (jth false _ _) _
      rw [jth_ff]
      have ez : m_X44_look q.1 R = some (q.1, false, 0) := by
        rw [em_X44_look]; unfold dm_X44_look
        rw [if_neg (by have := lk1.2.1; omega)]
      have C1 := h1.1
      have hw := wd_in (g := g) (n := n) (p := z.1.1) hbg (by omega) C1.2.2.1.2
      have hend := wd_0 (g := g) (n := n) (p := z.1.1) hbg (by omega) C1.2.2.1.2 z1
      rw [ez, Option.bind_some]
      show jE (jth false _ _) _
      rw [jth_ff]
      have l3 : jf q.1 53 R 3 = ln := by rw [G1.2.2.2.2 3 (by omega)]; exact hl
      have kc1 : lkc q.1 R (wd g n z.1.1) = 0 := by unfold lkc; split <;> omega
      have kq1 : lkq q.1 R (wd g n z.1.1) = 0 := by unfold lkq; split <;> omega
      have hk := C1.1.1.2.2
      have e61 : jf q.1 53 R 6 = (wd g n z.1.1).2.2.1 := lk1.2.2.1
      show jE ((if jf q.1 53 R 6 < jf q.1 53 R 1 then u_X44_all_30 q.1 R 1 else u_X44_all_30 q.1 R 0)) _
      rw [e61, C1.1.2.2.1]
      have gw1 : jGw u q.1 _ _ (fA u R x b b) := cF.gw G1
      by_cases cn : (wd g n z.1.1).2.2.1 < n
      · rw [if_pos cn]
        obtain ⟨w, a1, a2, a3, a4, a5⟩ := x_all30 (y0 := 1) h1 lk1 z1 l3 ⟨l0, by omega⟩
        rw [a1]
        refine jS_end ?_
        show jE (jlpW C' [R, 1] w) (aOut u R x b g n st.1 (if (wd g n z.1.1).2.2.1 < n then pvAll g n m (ln + 1) (((wd g n z.1.1).2.2.1 + 1, z.1.2), z.2) else .inr z))
        rw [if_pos cn, hC]
        have hc : bkC w b x z.1.2.1 z.2.1 z.2.2.1 z.2.2.2 := bkC.sl (R := R) ⟨C1.2.1, C1.2.2.2.2.1, h1.2.1, h1.2.2.1, h1.2.2.2.1⟩ a2 hk
        have I2 := C1.1.sl a2 (by omega)
        have lB2 : lB w R x b a g n ((wd g n z.1.1).2.2.1 + 1, z.1.2.1, z.1.2.2, hh) z.2.1 z.2.2.1 z.2.2.2 :=
          ⟨⟨I2, hc.1, ⟨by show 0 ≤ (wd g n z.1.1).2.2.1 + 1; omega, by show (wd g n z.1.1).2.2.1 + 1 ≤ n; omega⟩, .inl ⟨a4, a3⟩, hc.2.1, by rw [a2.2 _ _ _ (by omega)]; exact C1.2.2.2.2.2.1, by rw [a2.2 _ _ _ (by omega)]; exact C1.2.2.2.2.2.2.1, C1.2.2.2.2.2.2.2⟩, hc.2.2.1, hc.2.2.2.1, hc.2.2.2.2, h1.2.2.2.2⟩
        have k0 : ∀ W, lkc w R W = 0 := fun W => by unfold lkc; rw [if_neg (by omega)]
        have k1 : ∀ W, lkq w R W = 0 := fun W => by unfold lkq; rw [if_neg (by omega)]
        have M1 : cRn q.1 R g n z.1.1 := M.after G1
        have M2 : cRn w R g n ((wd g n z.1.1).2.2.1 + 1) := by
          obtain ⟨n0, b1, b2⟩ := M1
          obtain ⟨s1, s2, s3, s4, s5, s6, s7⟩ := a2.1
          rw [kc1] at b1; rw [kq1] at b2
          refine ⟨by omega, ?_, ?_⟩
          · rw [k0, s5]; omega
          · rw [k1, s6]; omega
        refine jE_mono (x_allLoop m w ((wd g n z.1.1).2.2.1 + 1, z.1.2.1, z.1.2.2, hh) z.2.1 z.2.2.1 z.2.2.2 (ln + 1) (by show (n + 1 - ((wd g n z.1.1).2.2.1 + 1)).toNat ≤ m; omega) lB2 M2 a5 (by omega) (by show ln + 1 ≤ (wd g n z.1.1).2.2.1 + 1; omega)) fun q' hq' => ?_
        obtain ⟨f1, f2⟩ := hq'
        have f1' : jGw w q'.1 (40 * (n - ((wd g n z.1.1).2.2.1 + 1)) + 10 - lkc w R (wd g n ((wd g n z.1.1).2.2.1 + 1))) (5400 * (n - ((wd g n z.1.1).2.2.1 + 1)) + 100 - lkq w R (wd g n ((wd g n z.1.1).2.2.1 + 1))) (fA w R x b b) := f1
        rw [k0, k1] at f1'
        refine ⟨((gw1.trans a2.gw (C := fA u R x b b) fun y hy q => ?_).trans f1' fun y hy q => ?_).mono ?_ ?_ fun _ _ z => z, f2⟩
        · rcases q with q | q
          · exact q
          · exact .inl (.inl q)
        · rcases q with q | q
          · exact q
          · refine fA.after G1 ?_ hy
            rcases q with q | q
            · rcases q with q | q | q
              · exact .inl (.inl q)
              · exact .inl (.inr (.inl q))
              · exact .inl (.inr (.inr (by rw [q]; exact a2.2 _ _ _ (by omega))))
            · exact .inr q
        · rw [kc1]; omega
        · rw [kq1]; omega
      · rw [if_neg cn]
        obtain ⟨w, a1, a2, a3, a4, a5⟩ := x_all30 (y0 := 0) h1 lk1 z1 l3 ⟨l0, by omega⟩
        rw [a1]
        refine jS_end ?_
        show jE (jlpW C' [R, 0] w) (aOut u R x b g n st.1 (if (wd g n z.1.1).2.2.1 < n then pvAll g n m (ln + 1) (((wd g n z.1.1).2.2.1 + 1, z.1.2), z.2) else .inr z))
        rw [if_neg cn, jlpW_r (e2 w)]
        refine jS_end ⟨(gw1.trans a2.gw (C := fA u R x b b) fun y hy q => ?_).mono ?_ ?_ fun _ _ z => z, rfl, ?_, bkC.sl (R := R) ⟨C1.2.1, C1.2.2.2.2.1, h1.2.1, h1.2.2.1, h1.2.2.2.1⟩ a2 hk⟩
        · rcases q with q | q
          · exact q
          · exact .inl (.inl q)
        · rw [kc1]; have := C1.2.2.1.2; have : z.1.1 ≤ n := this; omega
        · rw [kq1]; have := C1.2.2.1.2; have : z.1.1 ≤ n := this; omega
        · rw [a2.2 _ _ _ (by omega)]; exact C1.1.2.2.2.1
end jCline3
