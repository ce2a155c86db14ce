/-! the made image: a segment is laid, bytes are added, marks -/
section jImade3
variable {s t u : jS} {O X b r x v a m : Int} {i i' : Int → Int → Int → Int}
def sgB (x a m : Int) : Prop := 0 ≤ a ∧ a < 131072 ∧ 0 ≤ m ∧ m ≤ (if x = 2 then 32768 else 0)
/-- a new segment, nothing in it yet -/
def iSeg (i : Int → Int → Int → Int) (x a m : Int) : Int → Int → Int → Int := fun c y z => if c = 1 ∧ y = x then (if z = 0 then 1 else if z = 1 then a else if z = 2 then 0 else if z = 3 then m else i c y z) else i c y z
theorem iSeg_o {c y z : Int} (h : ¬ (c = 1 ∧ y = x)) : iSeg i x a m c y z = i c y z := if_neg h
theorem iSeg_0 : iSeg i x a m 1 x 0 = 1 := by unfold iSeg; rw [if_pos ⟨rfl, rfl⟩]; rfl
theorem iSeg_1 : iSeg i x a m 1 x 1 = a := by unfold iSeg; rw [if_pos ⟨rfl, rfl⟩]; rfl
theorem iSeg_2 : iSeg i x a m 1 x 2 = 0 := by unfold iSeg; rw [if_pos ⟨rfl, rfl⟩]; rfl
theorem iSeg_3 : iSeg i x a m 1 x 3 = m := by unfold iSeg; rw [if_pos ⟨rfl, rfl⟩]; rfl
/-- one byte more -/
def iPut (i : Int → Int → Int → Int) (x v : Int) : Int → Int → Int → Int := fun c y z => if c = 0 ∧ y = x ∧ z = i 1 x 2 then v else if c = 1 ∧ y = x ∧ z = 2 then i 1 x 2 + 1 else i c y z
theorem iPut_v : iPut i x v 0 x (i 1 x 2) = v := if_pos ⟨rfl, rfl, rfl⟩
theorem iPut_n : iPut i x v 1 x 2 = i 1 x 2 + 1 := by unfold iPut; rw [if_neg (by omega), if_pos ⟨rfl, rfl, rfl⟩]
theorem iPut_o {c y z : Int} (h : ¬ (c = 0 ∧ y = x ∧ z = i 1 x 2)) (h' : ¬ (c = 1 ∧ y = x ∧ z = 2)) : iPut i x v c y z = i c y z := by unfold iPut; rw [if_neg h, if_neg h']
theorem cSg.kv (h : cSg s v i x) (e : ∀ z, 0 ≤ z → z < 4 → i' 1 x z = i 1 x z) (e' : ∀ z, 0 ≤ z → z < i 1 x 2 → i' 0 x z = i 0 x z) : cSg s v i' x := by
  unfold cSg at h ⊢
  rw [e 0 (by omega) (by omega), e 1 (by omega) (by omega), e 2 (by omega) (by omega), e 3 (by omega) (by omega)]
  exact ⟨h.1, fun q => ⟨(h.2 q).1, (h.2 q).2.1, (h.2 q).2.2.1, fun k k0 k1 => by rw [e' k k0 k1]; exact (h.2 q).2.2.2 k k0 k1⟩⟩
theorem i_mseg (hI : cIm s (O + 1) i) (x0 : 0 ≤ x) (x1 : x < 3) (h0 : i 1 x 0 = 0) : jE (m_X22_segment s O x a m) fun q => sgB x a m ∧ jFx s q.1 (vsg (O + 1) x) 1 ∧ cIm q.1 (O + 1) (iSeg i x a m) ∨ ¬ sgB x a m ∧ q.1 = s := by
  rw [em_X22_segment]; unfold dm_X22_segment
  rw [e_X22_isSegment, if_pos (show ¬ x < 0 ∧ x < 3 by omega), Option.bind_some, if_neg (show ¬ (1 : Int) = 0 by decide), e_X22_in, Option.bind_some]
  have hm : jE (u_X22_segment_34 s O x a m (if x = 2 then 32768 else 0) 0 m) fun q => (0 ≤ m ∧ m ≤ (if x = 2 then 32768 else 0)) ∧ jFx s q.1 (vsg (O + 1) x) 1 ∧ cIm q.1 (O + 1) (iSeg i x a m) ∨ ¬ (0 ≤ m ∧ m ≤ (if x = 2 then 32768 else 0)) ∧ q.1 = s := by
    rw [eu_X22_segment_34]; unfold du_X22_segment_34
    rw [e_X22_in, Option.bind_some]
    generalize (if x = 2 then (32768 : Int) else 0) = w
    by_cases c : 0 ≤ m ∧ m ≤ w
    · rw [if_pos (show ¬ m < 0 ∧ ¬ w < m by omega), if_neg (show ¬ (1 : Int) = 0 by decide), jix_in x0 x1, Option.bind_some]
      have hl : jf s 28 (vsg (O + 1) x) 2 = 0 := by rw [(hI.1 x x0 x1).1]; exact h0
      obtain ⟨q, e, g, g2, g3, g4, g5⟩ := i_lie (x := a) (y := m) hl
      rw [show m_X24_lie s ((O + 1 + 1) + 2 + 2 * x) a m = some q from e, Option.bind_some]
      refine jS_end (.inl ⟨c, g, ?_⟩)
      obtain ⟨h1, h2, h3, h4, h5⟩ := hI
      refine ⟨fun y y0 y1 => ?_, by rw [g.F (by unfold vsg; omega), iSeg_o (by omega)]; exact h2, by rw [g.F (by unfold vsg; omega), iSeg_o (by omega)]; exact h3, fun k k0 k1 => by rw [g.F (by unfold vsg; omega), iSeg_o (by omega)]; exact h4 k k0 k1, fun y y0 y1 => ?_⟩
      · by_cases d : y = x
        · subst d
          exact ⟨by rw [iSeg_0]; exact g2, fun _ => ⟨by rw [iSeg_1]; exact g3, by rw [iSeg_2]; exact g4, by rw [iSeg_3]; exact g5, fun k k0 k1 => by rw [iSeg_2] at k1; omega⟩⟩
        · exact ((h1 y y0 y1).keep (t := q.1) fun c a k a0 a1 => g.F (by unfold vsg at a0 a1 ⊢; omega) k).kv (fun z _ _ => iSeg_o (by omega)) fun z _ _ => iSeg_o (by omega)
      · by_cases d : y = x
        · subst d; rw [g4]; omega
        · rw [g.F (by unfold vsg; omega)]; exact h5 y y0 y1
    · rw [if_neg (show ¬ (¬ m < 0 ∧ ¬ w < m) by omega), if_pos rfl]
      exact jS_end (.inr ⟨c, rfl⟩)
  by_cases c : 0 ≤ a ∧ a < 131072
  · rw [if_pos (show ¬ a < 0 ∧ ¬ 131071 < a by omega), if_neg (show ¬ (1 : Int) = 0 by decide)]
    have hm' : jE (if x = 2 then u_X22_segment_34 s O x a m 32768 0 m else u_X22_segment_34 s O x a m 0 0 m) fun q => (0 ≤ m ∧ m ≤ (if x = 2 then 32768 else 0)) ∧ jFx s q.1 (vsg (O + 1) x) 1 ∧ cIm q.1 (O + 1) (iSeg i x a m) ∨ ¬ (0 ≤ m ∧ m ≤ (if x = 2 then 32768 else 0)) ∧ q.1 = s := by
      rw [show (if x = 2 then u_X22_segment_34 s O x a m 32768 0 m else u_X22_segment_34 s O x a m 0 0 m) = u_X22_segment_34 s O x a m (if x = 2 then 32768 else 0) 0 m by split <;> rfl]; exact hm
    obtain ⟨q, e, g⟩ := hm'
    refine ⟨q, e, ?_⟩
    rcases g with ⟨g1, g2⟩ | ⟨g1, g2⟩
    · exact .inl ⟨⟨c.1, c.2, g1⟩, g2⟩
    · exact .inr ⟨fun k => g1 k.2.2, g2⟩
  · rw [if_neg (show ¬ (¬ a < 0 ∧ ¬ 131071 < a) by omega), if_pos rfl]
    exact jS_end (.inr ⟨fun k => c ⟨k.1, k.2.1⟩, rfl⟩)
theorem i_mput (hI : cIm s (O + 1) i) (vi : vIm i) (x0 : 0 ≤ x) (x1 : x < 3) (h0 : ¬ i 1 x 0 = 0) (h1 : i 1 x 2 < 4096) {p c : Int} (hp : L2i (L_shr p 56) % 256 = c) : jE (m_X22_put s O x 1 p) fun q => jFx s q.1 (vsg (O + 1) x) 2 ∧ cIm q.1 (O + 1) (iPut i x c) := by
  obtain ⟨a1, a2, a3, a4, a5⟩ := hI
  obtain ⟨b1, b2⟩ := a1 x x0 x1
  obtain ⟨b3, b4, b5, b6⟩ := b2 h0
  obtain ⟨z0, z1⟩ := a5 x x0 x1
  rw [em_X22_put]; unfold dm_X22_put
  rw [e_X22_isSegment, if_pos (show ¬ x < 0 ∧ x < 3 by omega), Option.bind_some, if_neg (show ¬ (1 : Int) = 0 by decide), jix_in x0 x1, Option.bind_some, if_neg (show ¬ jf s 28 (((O + 1) + 1) + 2 + 2 * x) 2 = 0 by rw [show jf s 28 (((O + 1) + 1) + 2 + 2 * x) 2 = i 1 x 0 from b1]; exact h0), e_X22_in, if_pos (show ¬ (1 : Int) < 1 ∧ ¬ (8 : Int) < 1 by decide), Option.bind_some, if_neg (show ¬ (1 : Int) = 0 by decide), Option.bind_some]
  have z : jf s 28 (((O + 1) + 1) + 2 + 2 * x) 4 = i 1 x 2 := b4
  rw [z, W32_in (by rw [b4] at z0; omega) (by omega), if_neg (by omega), eu_X22_put_59]; unfold du_X22_put_59
  refine jS_for (fun k u => if k = 0 then u = s else jFx s u (vsg (O + 1) x) 2 ∧ cIm u (O + 1) (iPut i x c)) (fun k => [O, x, 1, p, k]) 0 1 (by omega) (by rw [if_pos rfl]) (fun k u k0 k1 e => ?_) (fun u e => ?_)
  · have : k = 0 := by omega
    subst this
    rw [if_pos rfl] at e
    subst e
    show jE (b_X22_put_59 u O x 1 p 0) _
    unfold b_X22_put_59
    rw [if_pos (show (0 : Int) < 1 by decide), jix_in x0 x1, Option.bind_some, show m_X24_add u (((O + 1) + 1) + 2 + 2 * x) _ = _ from i_add (v := vsg (O + 1) x) z0 (by rw [b4]; exact h1), Option.bind_some]
    rw [show W32 (56 - W32 (8 * 0)) = 56 by rw [show W32 (8 * 0) = 0 from W32_in (by omega) (by omega)]; exact W32_in (by omega) (by omega)]
    rw [show W32 (0 + 1) = 0 + 1 from W32_in (by decide) (by decide)]
    refine jS_end ⟨rfl, ?_⟩
    rw [if_neg (by omega), W8_W8, hp, b4]
    have g : jFx u (jp (jp u 1001 (vsg (O + 1) x + 1) (i 1 x 2) (sb c)) 28 (vsg (O + 1) x) 4 (i 1 x 2 + 1)) (vsg (O + 1) x) 2 := (jFx.rfl.jp (jSs_a (by omega) rfl _) (by omega) (by omega)).jp rfl (by omega) (by omega)
    refine ⟨g, fun y y0 y1 => ?_, by rw [g.F (by unfold vsg; omega), iPut_o (by omega) (by omega)]; exact a2, by rw [g.F (by unfold vsg; omega), iPut_o (by omega) (by omega)]; exact a3, fun k k0 k1 => by rw [g.F (by unfold vsg; omega), iPut_o (by omega) (by omega)]; exact a4 k k0 k1, fun y y0 y1 => ?_⟩
    · by_cases d : y = x
      · subst d
        refine ⟨?_, fun _ => ⟨?_, ?_, ?_, fun k k0 k1 => ?_⟩⟩
        · rw [iPut_o (by omega) (by omega)]; (repeat (first | rw [jf_neg (by omega)] | rw [jf_pos (by omega)] | rw [ou_neg (by omega)] | rw [ou_pos (by omega)])); exact b1
        · rw [iPut_o (by omega) (by omega)]; (repeat (first | rw [jf_neg (by omega)] | rw [jf_pos (by omega)] | rw [ou_neg (by omega)] | rw [ou_pos (by omega)])); exact b3
        · rw [iPut_n]; (repeat (first | rw [jf_neg (by omega)] | rw [jf_pos (by omega)] | rw [ou_neg (by omega)] | rw [ou_pos (by omega)]))
        · rw [iPut_o (by omega) (by omega)]; (repeat (first | rw [jf_neg (by omega)] | rw [jf_pos (by omega)] | rw [ou_neg (by omega)] | rw [ou_pos (by omega)])); exact b5
        · rw [iPut_n] at k1
          by_cases e : k = i 1 y 2
          · subst e; rw [iPut_v]; (repeat (first | rw [jf_neg (by omega)] | rw [jf_pos (by omega)] | rw [ou_neg (by omega)] | rw [ou_pos (by omega)]))
          · rw [iPut_o (by omega) (by omega)]; (repeat (first | rw [jf_neg (by omega)] | rw [jf_pos (by omega)] | rw [ou_neg (by omega)] | rw [ou_pos (by omega)])); exact b6 k k0 (by omega)
      · exact ((a1 y y0 y1).keep fun c a k q0 q1 => g.F (by unfold vsg at q0 q1 ⊢; omega) k).kv (fun z _ _ => iPut_o (by omega) (by omega)) fun z _ _ => iPut_o (by omega) (by omega)
    · by_cases d : y = x
      · subst d; (repeat (first | rw [jf_neg (by omega)] | rw [jf_pos (by omega)] | rw [ou_neg (by omega)] | rw [ou_pos (by omega)])); omega
      · rw [g.F (by unfold vsg; omega)]; exact a5 y y0 y1
  · rw [if_neg (by omega)] at e
    show jE (b_X22_put_59 u O x 1 p 1) _
    unfold b_X22_put_59
    rw [if_neg (show ¬ (1 : Int) < 1 by decide)]
    exact jS_inr (jS_end e)
theorem iUp_id {a b : Int} (h : i a b 0 = v) : iUp i a b v = i := by
  funext x y z; unfold iUp; by_cases c : x = a ∧ y = b ∧ z = 0
  · rw [if_pos c, c.1, c.2.1, c.2.2, h]
  · rw [if_neg c]
/-- a mark of the made image -/
theorem i_mmark (hI : cIm s (O + 1) i) (vi : vIm i) (v0 : 0 ≤ v) (v1 : v < 4096) : jE (m_X22_mark s O v 1) fun q => jFx s q.1 (O + 3) 1 ∧ cIm q.1 (O + 1) (if v % 2 = 0 then iUp i 3 (v / 2) 1 else i) := by
  have hI' := hI
  obtain ⟨a1, a2, a3, a4, a5⟩ := hI
  rw [em_X22_mark]; unfold dm_X22_mark
  rw [e_X22_in, Option.bind_some]
  by_cases c : v % 2 = 0
  · rw [if_pos c, if_pos (show ¬ v < 0 ∧ ¬ 4094 < v by omega), if_neg (show ¬ (1 : Int) = 0 by decide), jdv_in (by decide), Option.bind_some, I_rem_n v0 (by omega) (by omega) (by omega), if_pos c, jdv_in (by decide), Option.bind_some, I_div_n v0 (by omega) (by omega) (by omega), jlt_in (by omega) (by omega), Option.bind_some]
    have e := a4 (v / 2) (by omega) (by omega)
    rw [show jf s 1002 ((O + 1) + 2) (v / 2) = i 3 (v / 2) 0 from e]
    by_cases d : i 3 (v / 2) 0 = 1
    · rw [if_pos d, iUp_id d]
      exact jS_end ⟨jFx.rfl, hI'⟩
    · rw [if_neg d, Option.bind_some, jst_in (by omega) (by omega), Option.bind_some, Wz_1]
      have g : jFx s (jp s 1002 ((O + 1) + 2) (v / 2) 1) (O + 3) 1 := jFx.rfl.jp (jSs_a (by omega) rfl _) (by omega) (by omega)
      refine jS_end ⟨g, fun y y0 y1 => ?_, by rw [iUp_ne (by omega)]; (repeat (first | rw [jf_neg (by omega)] | rw [jf_pos (by omega)] | rw [ou_neg (by omega)] | rw [ou_pos (by omega)])); exact a2, by rw [iUp_ne (by omega)]; (repeat (first | rw [jf_neg (by omega)] | rw [jf_pos (by omega)] | rw [ou_neg (by omega)] | rw [ou_pos (by omega)])); exact a3, fun k k0 k1 => ?_, fun y y0 y1 => by rw [g.F (by unfold vsg; omega)]; exact a5 y y0 y1⟩
      · exact ((a1 y y0 y1).keep fun c a k q0 q1 => g.F (by unfold vsg at q0 q1; omega) k).of fun a y z _ => iUp_ne (by omega)
      · by_cases f : k = v / 2
        · subst f; rw [iUp_at]; exact jf_pos ⟨rfl, rfl, rfl⟩
        · rw [iUp_ne (by omega), jf_neg (by omega)]; exact a4 k k0 k1
  · rw [if_neg c]
    by_cases d : v = 4095
    · rw [if_neg (show ¬ (¬ v < 0 ∧ ¬ 4094 < v) by omega), if_pos rfl]
      exact jS_end ⟨jFx.rfl, hI'⟩
    · rw [if_pos (show ¬ v < 0 ∧ ¬ 4094 < v by omega), if_neg (show ¬ (1 : Int) = 0 by decide), jdv_in (by decide), Option.bind_some, I_rem_n v0 (by omega) (by omega) (by omega), if_neg c]
      exact jS_end ⟨jFx.rfl, hI'⟩
end jImade3
