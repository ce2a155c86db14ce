/-! the twin's operands: marks, values -/
section jToper2
variable {s t u w v' : jS} {U n p p' q' r k c f v y e d o z a a' b' pl v6 : Int} {g : Int → Int} {l m : List Int} {NL : List (List Int)} {W : wR4} {st st' : pS} {I I' E L L1 L2 : pI} {D D' : Int → Prop} {q : qS}
theorem len8 {a0 a1 a2 a3 a4 a5 a6 a7 : Int} : l = [a0, a1, a2, a3, a4, a5, a6, a7] ↔ l.length = 8 ∧ l.getD 0 0 = a0 ∧ l.getD 1 0 = a1 ∧ l.getD 2 0 = a2 ∧ l.getD 3 0 = a3 ∧ l.getD 4 0 = a4 ∧ l.getD 5 0 = a5 ∧ l.getD 6 0 = a6 ∧ l.getD 7 0 = a7 := by
  constructor
  · intro h; subst h; exact ⟨rfl, rfl, rfl, rfl, rfl, rfl, rfl, rfl, rfl⟩
  · rintro ⟨h, h0, h1, h2, h3, h4, h5, h6, h7⟩
    refine ext0 h fun j hj => ?_
    have : j = 0 ∨ j = 1 ∨ j = 2 ∨ j = 3 ∨ j = 4 ∨ j = 5 ∨ j = 6 ∨ j = 7 := by omega
    rcases this with z | z | z | z | z | z | z | z <;> subst z <;> assumption
/-- a mark by its name -/
theorem y_mark (h15 : jf t 43 U 15 = 1) (h : nmT t U g n l) : m_X39_mark t U = some (mkO l) := by
  obtain ⟨hl, h16⟩ := h.len
  rw [em_X39_mark]; unfold dm_X39_mark mkO
  rw [if_pos h15, y_is2 h (by decide) (by decide), Option.bind_some, show cS 188 = [104, 105] by decide, show cS 189 = [108, 111] by decide, show cS 190 = [112, 99, 114, 101, 108, 95, 104, 105] by decide, show cS 191 = [112, 99, 114, 101, 108, 95, 108, 111] by decide]
  by_cases c1 : l = [104, 105]
  · rw [if_pos c1, if_pos c1, if_neg (by decide)]
  rw [if_neg c1, if_neg c1, if_pos rfl, y_is2 h (by decide) (by decide), Option.bind_some]
  by_cases c2 : l = [108, 111]
  · rw [if_pos c2, if_pos c2, if_neg (by decide)]
  rw [if_neg c2, if_neg c2, if_pos rfl]
  have k3 := len8 (l := l) (a0 := 112) (a1 := 99) (a2 := 114) (a3 := 101) (a4 := 108) (a5 := 95) (a6 := 104) (a7 := 105)
  have k4 := len8 (l := l) (a0 := 112) (a1 := 99) (a2 := 114) (a3 := 101) (a4 := 108) (a5 := 95) (a6 := 108) (a7 := 111)
  have e118 : u_X39_mark_118 t U = some 0 := by
    rw [eu_X39_mark_118]; unfold du_X39_mark_118
    rw [eu_X39_mark_119]; unfold du_X39_mark_119
    rw [if_pos rfl, eu_X39_mark_148]; unfold du_X39_mark_148
    rw [if_pos rfl]
  have e119 : u_X39_mark_119 t U 1 = some (if l.getD 6 0 = 104 ∧ l.getD 7 0 = 105 then 3 else if l.getD 6 0 = 108 ∧ l.getD 7 0 = 111 then 4 else 0) := by
    rw [eu_X39_mark_119]; unfold du_X39_mark_119
    have e148 : u_X39_mark_148 t U 1 = some (if l.getD 6 0 = 108 ∧ l.getD 7 0 = 111 then 4 else 0) := by
      rw [eu_X39_mark_148]; unfold du_X39_mark_148
      rw [if_neg (by decide), y_by6 h, Option.bind_some]
      by_cases c6 : l.getD 6 0 = 108
      · rw [if_pos c6, y_by7 h, Option.bind_some]
        by_cases c7 : l.getD 7 0 = 111
        · rw [if_pos c7, if_pos (show l.getD 6 0 = 108 ∧ l.getD 7 0 = 111 from ⟨c6, c7⟩)]
        · rw [if_neg c7, if_neg (show ¬ (l.getD 6 0 = 108 ∧ l.getD 7 0 = 111) from fun z => c7 z.2)]
      · rw [if_neg c6, if_neg (show ¬ (l.getD 6 0 = 108 ∧ l.getD 7 0 = 111) from fun z => c6 z.1)]
    rw [if_neg (by decide), y_by6 h, Option.bind_some, e148]
    by_cases c6 : l.getD 6 0 = 104
    · rw [if_pos c6, y_by7 h, Option.bind_some]
      by_cases c7 : l.getD 7 0 = 105
      · rw [if_pos c7, if_pos (show l.getD 6 0 = 104 ∧ l.getD 7 0 = 105 from ⟨c6, c7⟩)]
      · rw [if_neg c7, if_neg (show ¬ (l.getD 6 0 = 104 ∧ l.getD 7 0 = 105) from fun z => c7 z.2)]
    · rw [if_neg c6, if_neg (show ¬ (l.getD 6 0 = 104 ∧ l.getD 7 0 = 105) from fun z => c6 z.1)]
  rw [y_by0 h, Option.bind_some, y_by1 h, y_by2 h, y_by3 h, y_by4 h, y_by5 h]
  simp only [Option.bind_some]
  rw [hl]
  by_cases p : l.length = 8 ∧ l.getD 0 0 = 112 ∧ l.getD 1 0 = 99 ∧ l.getD 2 0 = 114 ∧ l.getD 3 0 = 101 ∧ l.getD 4 0 = 108 ∧ l.getD 5 0 = 95
  · rw [if_pos p.2.1, if_pos p.2.2.1, if_pos p.2.2.2.1, if_pos p.2.2.2.2.1, if_pos p.2.2.2.2.2.1, if_pos p.2.2.2.2.2.2, if_pos (by omega), e119]
    by_cases c3 : l.getD 6 0 = 104 ∧ l.getD 7 0 = 105
    · rw [if_pos c3, if_pos (show l = [112, 99, 114, 101, 108, 95, 104, 105] from k3.mpr ⟨p.1, p.2.1, p.2.2.1, p.2.2.2.1, p.2.2.2.2.1, p.2.2.2.2.2.1, p.2.2.2.2.2.2, c3⟩)]
    rw [if_neg c3, if_neg (show ¬ l = [112, 99, 114, 101, 108, 95, 104, 105] from fun z => c3 ⟨(k3.mp z).2.2.2.2.2.2.2.1, (k3.mp z).2.2.2.2.2.2.2.2⟩)]
    by_cases c4 : l.getD 6 0 = 108 ∧ l.getD 7 0 = 111
    · rw [if_pos c4, if_pos (show l = [112, 99, 114, 101, 108, 95, 108, 111] from k4.mpr ⟨p.1, p.2.1, p.2.2.1, p.2.2.2.1, p.2.2.2.2.1, p.2.2.2.2.2.1, p.2.2.2.2.2.2, c4⟩)]
    · rw [if_neg c4, if_neg (show ¬ l = [112, 99, 114, 101, 108, 95, 108, 111] from fun z => c4 ⟨(k4.mp z).2.2.2.2.2.2.2.1, (k4.mp z).2.2.2.2.2.2.2.2⟩)]
  · rw [if_neg (show ¬ l = [112, 99, 114, 101, 108, 95, 104, 105] from fun z => p (by have := k3.mp z; exact ⟨this.1, this.2.1, this.2.2.1, this.2.2.2.1, this.2.2.2.2.1, this.2.2.2.2.2.1, this.2.2.2.2.2.2.1⟩)), if_neg (show ¬ l = [112, 99, 114, 101, 108, 95, 108, 111] from fun z => p (by have := k4.mp z; exact ⟨this.1, this.2.1, this.2.2.1, this.2.2.2.1, this.2.2.2.2.1, this.2.2.2.2.2.1, this.2.2.2.2.2.2.1⟩)), e118]
    by_cases h0 : l.getD 0 0 = 112
    rotate_left
    · rw [if_neg h0]
    by_cases h1 : l.getD 1 0 = 99
    rotate_left
    · rw [if_pos h0, if_neg h1]
    by_cases h2 : l.getD 2 0 = 114
    rotate_left
    · rw [if_pos h0, if_pos h1, if_neg h2]
    by_cases h3 : l.getD 3 0 = 101
    rotate_left
    · rw [if_pos h0, if_pos h1, if_pos h2, if_neg h3]
    by_cases h4 : l.getD 4 0 = 108
    rotate_left
    · rw [if_pos h0, if_pos h1, if_pos h2, if_pos h3, if_neg h4]
    by_cases h5 : l.getD 5 0 = 95
    rotate_left
    · rw [if_pos h0, if_pos h1, if_pos h2, if_pos h3, if_pos h4, if_neg h5]
    rw [if_pos h0, if_pos h1, if_pos h2, if_pos h3, if_pos h4, if_pos h5, if_neg (fun z => p ⟨by omega, h0, h1, h2, h3, h4, h5⟩)]
theorem mkO_pt : mkO [46] = 0 := by
  unfold mkO
  rw [if_neg (by decide), if_neg (by decide), if_neg (by decide), if_neg (by decide)]
theorem tB.mark (T : tB t U g n st I) (hk : (wd g n st.1).1 = 1 ∨ (wd g n st.1).1 = 7) : m_X39_mark t U = some (mkO (nmO g (wd g n st.1).2.2.1 (wd g n st.1).2.2.2)) := by
  have h15 := T.2.1.1
  have hn := wd_nm T.1.2.2.1 T.2.2.1.1 T.2.2.1.2
  by_cases c1 : (wd g n st.1).1 = 1
  · exact y_mark (h15.trans c1) (T.2.1.nm T.1 T.2.2.1.1 T.2.2.1.2 (.inl c1))
  · rw [em_X39_mark]; unfold dm_X39_mark
    rw [if_neg (by omega), hn.1 (by omega), mkO_pt]
/-- an expression between words -/
theorem y_sum (T : tB t U g n (q.1, q.2.1, q.2.2, 0) I) : match pvSum g n q with
    | .inl e => ∃ w, m_X39_expression t U = some (w, 0) ∧ tFl t w U e.1 e.2
    | .inr z => ∃ w h, m_X39_expression t U = some (w, 1) ∧ tB w U g n (z.1.1, z.1.2.1, z.1.2.2, h) (I ++ z.2) ∧ yE t w U ∧ ¬ (wd g n z.1.1).1 = 6 := by
  have h := y_expr (k := 450) (by decide) T ⟨Int.le_refl 0, T.2.2.2.2.2.1.2.2.1⟩
  unfold pvSum
  cases hG : (gp g n 450).1 (q.1, q.2.1, q.2.2, 0) 1 1 with
  | inl e => rw [hG] at h; exact h
  | inr z =>
    rw [hG] at h
    obtain ⟨w, h1, h2, h3, h4, h5⟩ := h
    exact ⟨w, z.1.2.2.2, h1, h2, h3, h4⟩
def mkOut (x : Option (jS × Int)) (t : jS) (U : Int) (g : Int → Int) (n : Int) (I : pI) (v6 : Int) (D : Int → Prop) (pr : fE ⊕ (qS × pI × Int)) : Prop := match pr with
  | .inl e => ∃ w, x = some (w, 0) ∧ tFW t w U D e
  | .inr z => ∃ w h, x = some (w, 1) ∧ tB w U g n (z.1.1, z.1.2.1, z.1.2.2, h) (I ++ z.2.1) ∧ yW t w U D ∧ jf w 1000 (U + 5) (v6 + 2) = z.2.2 ∧ ∀ k, ¬ k = v6 + 2 → jf w 1000 (U + 5) k = jf t 1000 (U + 5) k
theorem y_flz (T : tB t U g n st I) {e : fE} (he : e = ((if (wd g n st.1).1 = 6 then (wd g n st.1).2.1 else f), (wd g n st.1).2.2.1)) : ∃ w, (m_X39_fail t U f).bind (fun q => some (q.1, Wz q.2)) = some (w, 0) ∧ tFW t w U D e := by
  obtain ⟨w, e1, h⟩ := T.fail (f := f)
  subst he
  exact ⟨w, by rw [e1, Option.bind_some, Wz_0], h.fw⟩
theorem y_marked (T : tB t U g n (p, q.2.1, q.2.2, 0) I) (h6 : ¬ (wd g n p).1 = 6) (hq : q.1 = (wd g n p).2.2.2) (k0 : 0 ≤ v6) (k1 : v6 < 5594) (D2 : D (v6 + 2)) : mkOut (m_X39_marked t U v6) t U g n I v6 D (pvMarked g n q) := by
  rw [em_X39_marked]; unfold dm_X39_marked
  obtain ⟨w1, z1, e1, T1, K1⟩ := T.next h6
  have T1 : tB w1 U g n ((wd g n p).2.2.2, q.2.1, q.2.2, 0) I := T1
  rw [← hq] at T1
  have K1' : yW t w1 U D := (yE.rfl.rd K1).yw
  have fo : ∀ {u : jS} {x : Option (jS × Int)} {e : fE}, yW t u U D → (∃ w, x = some (w, 0) ∧ tFW u w U D e) → mkOut x t U g n I v6 D (.inl e) := fun k h => by
    obtain ⟨w, h1, h2⟩ := h
    exact ⟨w, h1, h2.after k⟩
  have h15 : jf w1 43 U 15 = (wd g n q.1).1 := T1.2.1.1
  have ec : ∀ {x y : Option (jS × Int)}, (if jf w1 43 U 15 = 1 then x else if jf w1 43 U 15 = 7 then x else y) = if (wd g n q.1).1 = 1 ∨ (wd g n q.1).1 = 7 then x else y := fun {x y} => by
    rw [h15]
    by_cases c1 : (wd g n q.1).1 = 1
    · rw [if_pos c1, if_pos (.inl c1)]
    rw [if_neg c1]
    by_cases c7 : (wd g n q.1).1 = 7
    · rw [if_pos c7, if_pos (.inr c7)]
    · rw [if_neg c7, if_neg (by omega)]
  rw [e1, Option.bind_some, ec]
  unfold pvMarked
  by_cases c6 : (wd g n q.1).1 = 6
  · rw [if_pos c6, if_neg (show ¬ ((wd g n q.1).1 = 1 ∨ (wd g n q.1).1 = 7) by omega)]
    exact fo K1' (y_flz T1 (by rw [if_pos c6]))
  rw [if_neg c6]
  by_cases ck : (wd g n q.1).1 = 1 ∨ (wd g n q.1).1 = 7
  rotate_left
  · rw [if_pos ck, if_neg ck]
    exact fo K1' (y_flz T1 (by rw [if_neg c6]))
  rw [if_neg (show ¬ ¬ ((wd g n q.1).1 = 1 ∨ (wd g n q.1).1 = 7) from fun z => z ck), if_pos ck, eu_X39_marked_27]; unfold du_X39_marked_27
  rw [T1.mark ck, Option.bind_some]
  generalize mkO (nmO g (wd g n q.1).2.2.1 (wd g n q.1).2.2.2) = mk
  by_cases cm : mk = 0
  · rw [if_pos cm, if_pos cm]
    exact fo K1' (y_flz T1 (by rw [if_neg c6]))
  rw [if_neg cm, if_neg cm, W32_in (by omega) (by omega), jst_in (by omega) (by omega), Option.bind_some]
  have T2 : tB (jp w1 1000 (U + 5) (v6 + 2) mk) U g n (q.1, q.2.1, q.2.2, 0) I := T1.rec
  obtain ⟨w3, z3, e3, T3, K3⟩ := T2.next c6
  have T3 : tB w3 U g n ((wd g n q.1).2.2.2, q.2.1, q.2.2, 0) I := T3
  have K2 : yW t w3 U D := (K1'.trans (yW.rec yE.rfl.yw D2)).trans (yE.rfl.rd K3).yw
  rw [e3, Option.bind_some, T3.sgn (by omega), Option.bind_some]
  have rc3 : ∀ k, jf w3 1000 (U + 5) k = jf (jp w1 1000 (U + 5) (v6 + 2) mk) 1000 (U + 5) k := fun k => K3.2 _ _ _ (by omega) (by omega)
  by_cases d6 : (wd g n (wd g n q.1).2.2.2).1 = 6
  · have hN : pvNeed g n (wd g n q.1).2.2.2 40 = .inl ((wd g n (wd g n q.1).2.2.2).2.1, (wd g n (wd g n q.1).2.2.2).2.2.1) := by unfold pvNeed; rw [if_pos d6]
    rw [hN, if_neg (show ¬ ((wd g n (wd g n q.1).2.2.2).1 = 5 ∧ (wd g n (wd g n q.1).2.2.2).2.1 = 40) by omega), if_pos rfl]
    exact fo K2 (y_flz T3 (by rw [if_pos d6]))
  by_cases d40 : (wd g n (wd g n q.1).2.2.2).1 = 5 ∧ (wd g n (wd g n q.1).2.2.2).2.1 = 40
  rotate_left
  · have hN : pvNeed g n (wd g n q.1).2.2.2 40 = .inl (5, (wd g n (wd g n q.1).2.2.2).2.2.1) := by unfold pvNeed; rw [if_neg d6, if_neg d40]
    rw [hN, if_neg d40, if_pos rfl]
    exact fo K2 (y_flz T3 (by rw [if_neg d6]))
  have hN : pvNeed g n (wd g n q.1).2.2.2 40 = .inr (wd g n (wd g n q.1).2.2.2).2.2.2 := by unfold pvNeed; rw [if_neg d6, if_pos d40]
  rw [hN, if_pos d40, if_neg (show ¬ (1 : Int) = 0 by decide)]
  obtain ⟨w4, z4, e4, T4, K4⟩ := T3.next d6
  have T4 : tB w4 U g n ((wd g n (wd g n q.1).2.2.2).2.2.2, q.2.1, q.2.2, 0) I := T4
  have hs := y_sum (q := ((wd g n (wd g n q.1).2.2.2).2.2.2, q.2)) T4
  have K4' : yW t w4 U D := K2.trans (yE.rfl.rd K4).yw
  rw [e4, Option.bind_some]
  show mkOut ((m_X39_expression w4 U).bind fun q8 => if q8.2 = 0 then some (q8.1, Wz 0) else (m_X39_closes q8.1 U).bind fun q9 => if q9.2 = 0 then some (q9.1, Wz 0) else some (q9.1, Wz 1)) t U g n I v6 D (match pvSum g n ((wd g n (wd g n q.1).2.2.2).2.2.2, q.2) with
    | .inl e => .inl e
    | .inr z => match pvNeed g n z.1.1 41 with
      | .inl e => .inl e
      | .inr p2 => .inr ((p2, z.1.2), z.2, mk))
  cases hS : pvSum g n ((wd g n (wd g n q.1).2.2.2).2.2.2, q.2) with
  | inl e =>
    rw [hS] at hs
    obtain ⟨w, x1, x2⟩ := hs
    rw [x1, Option.bind_some, if_pos rfl, Wz_0]
    exact fo K4' ⟨w, rfl, x2.fw⟩
  | inr z =>
    rw [hS] at hs
    obtain ⟨w5, h5, x1, T5, K5, n6⟩ := hs
    have hc := y_closes (D := D) T5
    have hc0 := y_closes (D := fun _ => False) T5
    rw [x1, Option.bind_some, if_neg (show ¬ (1 : Int) = 0 by decide)]
    show mkOut ((m_X39_closes w5 U).bind fun q9 => if q9.2 = 0 then some (q9.1, Wz 0) else some (q9.1, Wz 1)) t U g n I v6 D (match pvNeed g n z.1.1 41 with
      | .inl e => .inl e
      | .inr p2 => .inr ((p2, z.1.2), z.2, mk))
    have hc : match pvNeed g n z.1.1 41 with
      | .inl e => ∃ w, m_X39_closes w5 U = some (w, 0) ∧ tFW w5 w U D e
      | .inr p => ∃ w, m_X39_closes w5 U = some (w, 1) ∧ tB w U g n (p, z.1.2.1, z.1.2.2, h5) (I ++ z.2) ∧ yW w5 w U D := hc
    have hc0 : match pvNeed g n z.1.1 41 with
      | .inl e => ∃ w, m_X39_closes w5 U = some (w, 0) ∧ tFW w5 w U (fun _ => False) e
      | .inr p => ∃ w, m_X39_closes w5 U = some (w, 1) ∧ tB w U g n (p, z.1.2.1, z.1.2.2, h5) (I ++ z.2) ∧ yW w5 w U (fun _ => False) := hc0
    cases hN : pvNeed g n z.1.1 41 with
    | inl e =>
      rw [hN] at hc
      obtain ⟨w, y1, y2⟩ := hc
      rw [y1, Option.bind_some, if_pos rfl, Wz_0]
      exact fo K4' ⟨w, rfl, y2.after K5.yw⟩
    | inr p2 =>
      rw [hN] at hc hc0
      obtain ⟨w, y1, T6, K6⟩ := hc
      obtain ⟨w', y1', -, K6'⟩ := hc0
      rw [y1] at y1'
      have ww : w = w' := congrArg Prod.fst (Option.some.inj y1')
      have G : ∀ k, jf w 1000 (U + 5) k = jf (jp w1 1000 (U + 5) (v6 + 2) mk) 1000 (U + 5) k := fun k => by
        rw [ww, K6'.2 _ _ _ (by omega) (by omega) (by omega) (fun z => z.2.2), K5.2 _ _ _ (by omega) (by omega) (by omega), K4.2 _ _ _ (by omega) (by omega), rc3]
      refine ⟨w, h5, by rw [y1, Option.bind_some, if_neg (show ¬ (1 : Int) = 0 by decide), Wz_1], T6, (K4'.trans K5.yw).trans K6, ?_, fun k hk => ?_⟩
      · rw [G, jf_pos ⟨rfl, rfl, rfl⟩]
      · rw [G, jf_neg (by omega), K1.2 _ _ _ (by omega) (by omega)]
end jToper2
