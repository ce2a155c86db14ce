/-! the component's values: all of it -/
section jCval4
variable {s t u u0 w v' : jS} {R x b a a' n p p' p0 q r k c f v y e d o z K S X Y X' Y' P Q pl lo lo' ln y0 eX eY f0 f1 f2 : Int} {g fl : Int → Int} {l m : List Int} {NL : List (List Int)} {W : wR4} {st st' : pS} {I I' L L1 L2 : pI} {A : Int → Prop} {OL : List pvO} {SL : List pvS} {qq : jS × Bool × Int}
/-- a bad word in a bracket -/
theorem pvVal_br6 {q : qS} (h : (wd g n q.1).1 = 5 ∧ (wd g n q.1).2.1 = 40) (h6 : (wd g n (wd g n q.1).2.2.2).1 = 6) : pvVal g n q = .inl ((wd g n (wd g n q.1).2.2.2).2.1, (wd g n (wd g n q.1).2.2.2).2.2.1) := by
  unfold pvVal
  rw [if_neg (by omega), if_neg (fun z => z.2 (by unfold pvReg; rw [if_neg (by omega)]))]
  have e : (gp g n 450).2.2.2 ((wd g n q.1).2.2.2, q.2.1, q.2.2, 0) 2 = .inl ((wd g n (wd g n q.1).2.2.2).2.1, (wd g n (wd g n q.1).2.2.2).2.2.1) := by
    show inBrF g n (gp g n 449) _ 2 = _
    unfold inBrF
    have e2 : (gp g n 449).1 ((wd g n q.1).2.2.2, q.2.1, q.2.2, 0) 2 1 = .inl ((wd g n (wd g n q.1).2.2.2).2.1, (wd g n (wd g n q.1).2.2.2).2.2.1) := by
      show sumF (gp g n 448) _ 2 1 = _
      unfold sumF
      have e3 : (gp g n 448).2.2.1 ((wd g n q.1).2.2.2, q.2.1, q.2.2, 0) 2 = .inl ((wd g n (wd g n q.1).2.2.2).2.1, (wd g n (wd g n q.1).2.2.2).2.2.1) := by
        show sglF g n (gp g n 447) _ 2 = _
        rw [sglF_eq, if_pos h6]
      rw [e3]
    rw [e2]
  have e1 : (gp g n 450).1 (q.1, q.2.1, q.2.2, 0) 1 1 = .inl ((wd g n (wd g n q.1).2.2.2).2.1, (wd g n (wd g n q.1).2.2.2).2.2.1) :=
    (gp_br (st := (q.1, q.2.1, q.2.2, 0)) h).trans (by rw [show (gp g n 450).2.2.2 ((wd g n ((q.1, q.2.1, q.2.2, 0) : pS).1).2.2.2, ((q.1, q.2.1, q.2.2, 0) : pS).2) 2 = _ from e])
  unfold pvSum
  rw [e1]
/-- an expression that begins with a bracket, this taken -/
theorem x_behind (h : vS u0 u R x b a S y0 g n p0 eX eY st I) (V : vX u0 R x b S g n p0) (hX : eX ≤ 5) (hY : eY ≤ 50) : jE (m_X44_behindBracket u R) fun q => match (match (gp g n 450).2.2.2 st 2 with | .inl e => .inl e | .inr z => (gp g n 450).2.1 z.2 z.1 1 1 : pR) with
    | .inl e => cFm u0 R x b S g n p0 e.1 e.2 q
    | .inr z => q.2.1 = false ∧ vS u0 q.1 R x b a S y0 g n p0 eX eY z.1 I ∧ layT (jn u) q.1 z.2.length q.2.2 z.2 ∧ ∀ j, jf q.1 63 y0 j = jf u 63 y0 j := by
  have hI := (ce_all (R := R) (x := x) (b := b) (a := a) (g := g) (n := n) 450 2 (by decide) (by decide)).2.2.2 (by decide) u st h.1 (h.rm V hX hY)
  rw [em_X44_behindBracket]; unfold dm_X44_behindBracket
  rw [em_X44_inBrackets, em_X44_more]
  refine jE_bind.mpr (jE_mono hI fun q hq => ?_)
  cases hG : (gp g n 450).2.2.2 st 2 with
  | inl e =>
    rw [hG] at hq
    rw [hq.1]
    exact jS_end (cFm.flt (z := e) (h.fault hX hY hq.2 hq.1))
  | inr z =>
    rw [hG] at hq
    obtain ⟨q1, q2, q3, q4, q5⟩ := hq
    obtain ⟨v1, F1⟩ := h.step V q4 q2 (by omega)
    rw [q1]
    have hM := (ce_all (R := R) (x := x) (b := b) (a := a) (g := g) (n := n) 450 1 (by decide) (by decide)).2.1 1 (by decide) (by decide) (by decide) q.1 z.1 (jn u) q.2.2 z.2 q2 (v1.rm V hX hY) q3 q4.1.1
    show jE (((gr_sum 450).2.1 q.1 R q.2.2 1 1).bind _) _
    refine jE_bind.mpr (jE_mono hM fun q' hq' => ?_)
    show jE _ (fun q => match (gp g n 450).2.1 z.2 z.1 1 1 with | Sum.inl e => _ | Sum.inr z => _)
    cases hG' : (gp g n 450).2.1 z.2 z.1 1 1 with
    | inl e =>
      rw [hG'] at hq'
      rw [hq'.1]
      exact jS_end (cFm.flt (z := e) (v1.fault hX hY hq'.2 hq'.1))
    | inr z' =>
      rw [hG'] at hq'
      obtain ⟨r1, r2, r3, r4, r5⟩ := hq'
      obtain ⟨v2, F2⟩ := v1.step V r4 r2 (by omega)
      rw [r1]
      exact jS_end ⟨rfl, v2, r3, fun j => (F2 j).trans (F1 j)⟩
/-- a value behind the bracket -/
theorem x_v93 (h : vS u0 u R x b a S y0 g n p0 eX eY st I) (V : vX u0 R x b S g n p0) (hX : eX ≤ 5) (hY : eY ≤ 50) (G : opG u y0 0 (-1) 0 fl) (h3 : fl 3 = I.length) (hI : (I.length : Int) ≤ st.2.2.1) (hz : st.2.2.2 = 0) (hp : p ≤ n) (hp0 : 0 ≤ p) (hc : st.2.2.1 ≤ 2000) (hb : (wd g n p).1 = 5 ∧ (wd g n p).2.1 = 40) (hq : st.1 = (wd g n p).2.2.2) (hr : pvReg g (wd g n st.1) = -1) : jE (u_X44_valued_93 u R y0) fun q => match pvVal g n (p, st.2.1, st.2.2.1) with
    | .inl e => cFm u0 R x b S g n p0 e.1 e.2 q
    | .inr z => q.2.1 = false ∧ (∃ hh, vS u0 q.1 R x b a S y0 g n p0 eX eY (z.1.1, z.1.2.1, z.1.2.2, hh) (I ++ z.2.1)) ∧ opG q.1 y0 z.2.2.1 z.2.2.2.1 z.2.2.2.2 fl ∧ jf q.1 63 y0 4 = z.2.1.length := by
  have hbg := h.1.1.2.2.2.2.2.2.2.1.1
  have nb := V.1.2.2
  have h5 := h.2.2.2.2.1
  have hn := h.2.1.1
  have ok := pvVal_ok (q := (p, st.2.1, st.2.2.1)) hbg hp0 hp hc (v := ((p, st.2.1, st.2.2.1), [], 0, 0, 0))
  clear ok
  have es : ((wd g n p).2.2.2, st.2.1, st.2.2.1, (0 : Int)) = st := by
    obtain ⟨s1, s2, s3, s4⟩ := st
    have e1 : s4 = 0 := hz
    have e2 : s1 = _ := hq
    rw [e1, e2]
  have eV : pvVal g n (p, st.2.1, st.2.2.1) = match (match (gp g n 450).2.2.2 st 2 with | .inl e => .inl e | .inr z => (gp g n 450).2.1 z.2 z.1 1 1 : pR) with
      | .inl e => .inl e
      | .inr z => pvTail g n (z.1.1, z.1.2.1, z.1.2.2.1) z.2 0 := by
    unfold pvVal
    rw [if_neg (show ¬ ((wd g n ((p, st.2.1, st.2.2.1) : qS).1).1 = 5 ∧ (wd g n ((p, st.2.1, st.2.2.1) : qS).1).2.1 = 37) from fun z => by have := z.2; have := hb.2; show False; exact absurd (hb.2.symm.trans z.2) (by decide)), if_neg (fun z => z.2 (by show pvReg g (wd g n (wd g n p).2.2.2) = -1; rw [← hq]; exact hr))]
    unfold pvSum
    rw [gp_br (st := (p, st.2.1, st.2.2.1, 0)) hb]
    show (match (match (match (gp g n 450).2.2.2 ((wd g n p).2.2.2, st.2.1, st.2.2.1, 0) 2 with | .inl e => .inl e | .inr z => (gp g n 450).2.1 z.2 z.1 1 1 : pR) with | .inl e => .inl e | .inr z => .inr ((z.1.1, z.1.2.1, z.1.2.2.1), z.2) : fE ⊕ (qS × pI)) with | .inl e => .inl e | .inr z => pvTail g n z.1 z.2 0 : vR) = _
    rw [es]
    cases (match (gp g n 450).2.2.2 st 2 with | .inl e => .inl e | .inr z => (gp g n 450).2.1 z.2 z.1 1 1 : pR) <;> rfl
  have okV : ∀ v, pvVal g n (p, st.2.1, st.2.2.1) = .inr v → v.1.2.2 = st.2.2.1 + v.2.1.length ∧ v.2.1.length ≤ 60 ∧ v.1.2.2 ≤ 2000 := fun v hv => by
    have := pvVal_ok (q := (p, st.2.1, st.2.2.1)) hbg hp0 hp hc hv
    exact this.2.2
  have okS : ∀ z, pvSum g n (p, st.2.1, st.2.2.1) = .inr z → z.1.2.2 = st.2.2.1 + z.2.length ∧ z.2.length ≤ 60 ∧ z.1.2.2 ≤ 2000 := fun z hz => by
    have := pvSum_ok (q := (p, st.2.1, st.2.2.1)) hbg hp0 hp hz
    exact ⟨this.2.2.1, this.2.2.2.1, this.2.2.2.2 hc⟩
  rw [eV]
  rw [eu_X44_valued_93]; unfold du_X44_valued_93
  refine jE_bind.mpr (jE_mono (x_behind h V hX hY) fun q hq' => ?_)
  cases hG : (match (gp g n 450).2.2.2 st 2 with | .inl e => .inl e | .inr z => (gp g n 450).2.1 z.2 z.1 1 1 : pR) with
  | inl e =>
    rw [hG] at hq'
    rw [hq'.1]
    exact jS_end (cFm.flt (z := e) hq')
  | inr z =>
    rw [hG] at hq'
    obtain ⟨q1, v1, T1, F1⟩ := hq'
    have hs := okS ((z.1.1, z.1.2.1, z.1.2.2.1), z.2) (by
      unfold pvSum
      rw [gp_br (st := (p, st.2.1, st.2.2.1, 0)) hb]
      show (match (match (gp g n 450).2.2.2 ((wd g n p).2.2.2, st.2.1, st.2.2.1, 0) 2 with | .inl e => .inl e | .inr z => (gp g n 450).2.1 z.2 z.1 1 1 : pR) with | .inl e => .inl e | .inr z => .inr ((z.1.1, z.1.2.1, z.1.2.2.1), z.2) : fE ⊕ (qS × pI)) = _
      rw [es, hG])
    have hs1 : z.1.2.2.1 = st.2.2.1 + z.2.length := hs.1
    have hs3 : z.1.2.2.1 ≤ 2000 := hs.2.2
    rw [q1]
    obtain ⟨s2, v2, R2, T2⟩ := v1.slot V 6 q.2.2 (lo := jn u) h5.2.1
    show jE ((jwr q.1 63 y0 6 q.2.2).bind _) _
    rw [s2, Option.bind_some, eu_X44_valued_101]; unfold du_X44_valued_101
    refine jE_mono (x_tailV v2 V hX hY ((G.same F1).slot (.inr rfl)) h3 (jf_pos ⟨rfl, rfl, rfl⟩) (T2 _ _ _ T1) (by omega) h5.2.1 (by omega) (by have hs2 : z.2.length ≤ 60 := hs.2.1; omega)) fun q5 hq5 => ?_
    show match pvTail g n (z.1.1, z.1.2.1, z.1.2.2.1) z.2 0 with | .inl e => _ | .inr z => _
    cases hT : pvTail g n (z.1.1, z.1.2.1, z.1.2.2.1) z.2 0 with
    | inl e => rw [hT] at hq5; exact hq5
    | inr z5 =>
      rw [hT] at hq5
      obtain ⟨a1, a2, a3, a4⟩ := hq5
      exact ⟨a1, ⟨_, a2⟩, a3, a4⟩
end jCval4
