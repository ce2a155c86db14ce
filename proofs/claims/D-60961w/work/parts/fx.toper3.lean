/-! the twin's operands: values -/
section jToper3
variable {s t u w v' : jS} {U n p p' q' r k c f v y e d o z a a' b' pl v6 mk : Int} {g : Int → Int} {l m : List Int} {NL : List (List Int)} {W : wR4} {st st' : pS} {I I' E L L1 L2 : pI} {D D' : Int → Prop} {q : qS}
def winD (v6 : Int) : Int → Prop := fun k => v6 ≤ k ∧ k < v6 + 7
/-- the record of an operand, as far as it is known -/
def rcT (t : jS) (U v6 a b c d f h : Int) : Prop := jf t 1000 (U + 5) v6 = a ∧ jf t 1000 (U + 5) (v6 + 1) = b ∧ jf t 1000 (U + 5) (v6 + 2) = c ∧ jf t 1000 (U + 5) (v6 + 3) = d ∧ jf t 1000 (U + 5) (v6 + 5) = f ∧ jf t 1000 (U + 5) (v6 + 6) = h
def vlOut (x : Option (jS × Int)) (t : jS) (U : Int) (g : Int → Int) (n : Int) (I : pI) (v6 pl h0 : Int) (pr : vR) : Prop := match pr with
  | .inl e => (∃ w, x = some (w, 0) ∧ tFW t w U (winD v6) e) ∨ (∃ w st' I', x = some (w, 1) ∧ tB w U g n st' I' ∧ (wd g n st'.1).1 = 6 ∧ e = ((wd g n st'.1).2.1, (wd g n st'.1).2.2.1) ∧ yW t w U (winD v6))
  | .inr v => ∃ w h, x = some (w, 1) ∧ tB w U g n (v.1.1, v.1.2.1, v.1.2.2, h) (I ++ v.2.1) ∧ yW t w U (winD v6) ∧ rcT w U v6 v.2.2.1 v.2.2.2.1 v.2.2.2.2 I.length pl h0 ∧ jf w 1000 (U + 5) (v6 + 4) = v.2.1.length
theorem tB.itl (T : tB t U g n st I) : jf t 1000 (U + 3) 2 = I.length ∧ (I.length : Int) ≤ 2000 := ⟨T.2.2.2.2.2.2.1.1, by have := T.2.2.2.2.2.2.2; have := T.2.2.2.2.2.1.2.2.2.2; omega⟩
theorem y_421 (T : tB t U g n st (I ++ L)) (k0 : 0 ≤ v6) (k1 : v6 < 5594) (h3 : jf t 1000 (U + 5) (v6 + 3) = I.length) : u_X39_takeOperand_421 t U v6 = some (jp t 1000 (U + 5) (v6 + 4) L.length, 1) := by
  obtain ⟨i1, i2⟩ := T.itl
  have hl : ((I ++ L).length : Int) = I.length + L.length := by simp
  rw [eu_X39_takeOperand_421]; unfold du_X39_takeOperand_421
  rw [jlt_in (by omega) (by omega), Option.bind_some, i1, W32_in (z := v6 + 3) (by omega) (by omega), jlt_in (by omega) (by omega), Option.bind_some, h3, hl, W32_in (z := v6 + 4) (by omega) (by omega), W32_in (by omega) (by omega), jst_in (by omega) (by omega), Option.bind_some, Wz_1, show (I.length : Int) + L.length - I.length = L.length by omega]
theorem y_395 {h : Int} (T : tB t U g n (q.1, q.2.1, q.2.2, h) (I ++ L)) (k0 : 0 ≤ v6) (k1 : v6 < 5594) (R : rcT t U v6 0 (-1) mk I.length pl d) : vlOut (u_X39_takeOperand_395 t U v6 1) t U g n I v6 pl d (pvTail g n q L mk) := by
  rw [eu_X39_takeOperand_395]; unfold du_X39_takeOperand_395 pvTail
  obtain ⟨R0, R1, R2, R3, R5, R6⟩ := R
  rw [if_neg (show ¬ (1 : Int) = 0 by decide), T.sgn (by omega), Option.bind_some]
  by_cases c6 : (wd g n q.1).1 = 6
  · rw [if_pos c6, if_neg (show ¬ ((wd g n q.1).1 = 5 ∧ (wd g n q.1).2.1 = 40) by omega), if_pos rfl, y_421 T k0 k1 R3]
    exact .inr ⟨_, _, _, rfl, T.rec, c6, rfl, yW.rec yE.rfl.yw ⟨by omega, by omega⟩⟩
  rw [if_neg c6]
  by_cases c40 : (wd g n q.1).1 = 5 ∧ (wd g n q.1).2.1 = 40
  rotate_left
  · rw [if_neg c40, if_neg c40, if_pos rfl, y_421 T k0 k1 R3]
    refine ⟨_, h, rfl, T.rec, yW.rec yE.rfl.yw ⟨by omega, by omega⟩, ⟨?_, ?_, ?_, ?_, ?_, ?_⟩, jf_pos ⟨rfl, rfl, rfl⟩⟩
    · rw [jf_neg (by omega)]; exact R0
    · rw [jf_neg (by omega)]; exact R1
    · rw [jf_neg (by omega)]; exact R2
    · rw [jf_neg (by omega)]; exact R3
    · rw [jf_neg (by omega)]; exact R5
    · rw [jf_neg (by omega)]; exact R6
  rw [if_pos c40, if_pos c40, if_neg (show ¬ (1 : Int) = 0 by decide)]
  have hb := y_based (D := winD v6) T c6 k0 k1 ⟨by omega, by omega⟩ ⟨by omega, by omega⟩
  have hb : match pvBased g n (wd g n q.1).2.2.2 with
    | .inl e => ∃ w, m_X39_based t U v6 = some (w, 0) ∧ tFW t w U (winD v6) e
    | .inr z => ∃ w, m_X39_based t U v6 = some (w, 1) ∧ tB w U g n (z.2, q.2.1, q.2.2, h) (I ++ L) ∧ yW t w U (winD v6) ∧ jf w 1000 (U + 5) v6 = 2 ∧ jf w 1000 (U + 5) (v6 + 1) = z.1 ∧ ∀ k, ¬ k = v6 → ¬ k = v6 + 1 → jf w 1000 (U + 5) k = jf t 1000 (U + 5) k := hb
  cases hB : pvBased g n (wd g n q.1).2.2.2 with
  | inl e =>
    rw [hB] at hb
    obtain ⟨w, x1, x2⟩ := hb
    exact .inl ⟨w, by rw [x1, Option.bind_some, if_pos rfl, Wz_0], x2⟩
  | inr z =>
    rw [hB] at hb
    obtain ⟨w, x1, T1, K1, x4, x5, x6⟩ := hb
    have R3' : jf w 1000 (U + 5) (v6 + 3) = I.length := by rw [x6 _ (by omega) (by omega)]; exact R3
    refine ⟨jp w 1000 (U + 5) (v6 + 4) L.length, h, by rw [x1, Option.bind_some, if_neg (show ¬ (1 : Int) = 0 by decide), y_421 T1 k0 k1 R3'], T1.rec, yW.rec K1 ⟨by omega, by omega⟩, ⟨?_, ?_, ?_, ?_, ?_, ?_⟩, jf_pos ⟨rfl, rfl, rfl⟩⟩
    · rw [jf_neg (by omega)]; exact x4
    · rw [jf_neg (by omega)]; exact x5
    · rw [jf_neg (by omega), x6 _ (by omega) (by omega)]; exact R2
    · rw [jf_neg (by omega)]; exact R3'
    · rw [jf_neg (by omega), x6 _ (by omega) (by omega)]; exact R5
    · rw [jf_neg (by omega), x6 _ (by omega) (by omega)]; exact R6
theorem vlOut.after {x : Option (jS × Int)} {pr : vR} {h0 : Int} (h : vlOut x u U g n I v6 pl h0 pr) (k : yW t u U (winD v6)) : vlOut x t U g n I v6 pl h0 pr := by
  cases pr with
  | inl e =>
    rcases h with ⟨w, h1, h2⟩ | ⟨w, st', I', h1, h2, h3, h4, h5⟩
    · exact .inl ⟨w, h1, h2.after k⟩
    · exact .inr ⟨w, st', I', h1, h2, h3, h4, k.trans h5⟩
  | inr v =>
    obtain ⟨w, h, h1, h2, h3, h4⟩ := h
    exact ⟨w, h, h1, h2, k.trans h3, h4⟩
/-- a word that was looked beyond is at hand again -/
theorem tB.back (T : tB t U g n st I) (h5 : (wd g n st.1).1 = 5) (K : yRd t u U) : tB (jp (jp (jp (jp u 43 U 15 (jf t 43 U 15)) 43 U 16 (jf t 43 U 16)) 43 U 17 (jf t 43 U 17)) 43 U 18 (jf t 43 U 18)) U g n st I ∧ yRd t (jp (jp (jp (jp u 43 U 15 (jf t 43 U 15)) 43 U 16 (jf t 43 U 16)) 43 U 17 (jf t 43 U 17)) 43 U 18 (jf t 43 U 18)) U := by
  have K2 : yRd t (jp (jp (jp (jp u 43 U 15 (jf t 43 U 15)) 43 U 16 (jf t 43 U 16)) 43 U 17 (jf t 43 U 17)) 43 U 18 (jf t 43 U 18)) U := (((K.slt (by omega)).slt (by omega)).slt (by omega)).slt (by omega)
  have f15 : jf (jp (jp (jp (jp u 43 U 15 (jf t 43 U 15)) 43 U 16 (jf t 43 U 16)) 43 U 17 (jf t 43 U 17)) 43 U 18 (jf t 43 U 18)) 43 U 15 = jf t 43 U 15 := by (repeat (first | rw [jf_neg (by omega)] | rw [jf_pos (by omega)] | rw [ou_neg (by omega)] | rw [ou_pos (by omega)]))
  have f16 : jf (jp (jp (jp (jp u 43 U 15 (jf t 43 U 15)) 43 U 16 (jf t 43 U 16)) 43 U 17 (jf t 43 U 17)) 43 U 18 (jf t 43 U 18)) 43 U 16 = jf t 43 U 16 := by (repeat (first | rw [jf_neg (by omega)] | rw [jf_pos (by omega)] | rw [ou_neg (by omega)] | rw [ou_pos (by omega)]))
  have f17 : jf (jp (jp (jp (jp u 43 U 15 (jf t 43 U 15)) 43 U 16 (jf t 43 U 16)) 43 U 17 (jf t 43 U 17)) 43 U 18 (jf t 43 U 18)) 43 U 17 = jf t 43 U 17 := by (repeat (first | rw [jf_neg (by omega)] | rw [jf_pos (by omega)] | rw [ou_neg (by omega)] | rw [ou_pos (by omega)]))
  have f18 : jf (jp (jp (jp (jp u 43 U 15 (jf t 43 U 15)) 43 U 16 (jf t 43 U 16)) 43 U 17 (jf t 43 U 17)) 43 U 18 (jf t 43 U 18)) 43 U 18 = jf t 43 U 18 := by (repeat (first | rw [jf_neg (by omega)] | rw [jf_pos (by omega)] | rw [ou_neg (by omega)] | rw [ou_pos (by omega)]))
  generalize jp (jp (jp (jp u 43 U 15 (jf t 43 U 15)) 43 U 16 (jf t 43 U 16)) 43 U 17 (jf t 43 U 17)) 43 U 18 (jf t 43 U 18) = w at *
  obtain ⟨T1, T2, T3, T4, T5, T6, T7, T9⟩ := T
  have F : ∀ c a j, ¬ (c = 43 ∧ a = U ∧ (j = 11 ∨ 15 ≤ j ∧ j ≤ 18)) → ¬ (c = 1000 ∧ a = U + 15) → jf w c a j = jf t c a j := K2.2
  refine ⟨⟨T1.kp K2, ?_, T3, by rw [F _ _ _ (by omega) (by omega)]; exact T4, ⟨by rw [F _ _ _ (by omega) (by omega)]; exact T5.1, T5.2.1, fun i hi => ⟨(T5.2.2 i hi).1, by rw [F _ _ _ (by omega) (by omega)]; exact (T5.2.2 i hi).2.1, fun j hj => by rw [F _ _ _ (by omega) (by omega)]; exact (T5.2.2 i hi).2.2 j hj⟩⟩, ⟨by rw [F _ _ _ (by omega) (by omega)]; exact T6.1, by rw [F _ _ _ (by omega) (by omega)]; exact T6.2.1, T6.2.2⟩, ⟨by rw [F _ _ _ (by omega) (by omega)]; exact T7.1, fun i hi => by rw [F _ _ _ (by omega) (by omega), F _ _ _ (by omega) (by omega)]; exact T7.2 i hi⟩, T9⟩, K2⟩
  unfold tkS at T2 ⊢
  rw [f15, f16, f17, f18]
  exact ⟨T2.1, T2.2.1, T2.2.2.1, T2.2.2.2.1, T2.2.2.2.2.1, T2.2.2.2.2.2.1, fun z => by omega⟩
theorem y_isBase (T : tB t U g n st I) : ∃ w, m_X39_isBase t U = some (w, if ((wd g n st.1).1 = 5 ∧ (wd g n st.1).2.1 = 40) ∧ ¬ pvReg g (wd g n (wd g n st.1).2.2.2) = -1 then 1 else 0) ∧ tB w U g n st I ∧ yRd t w U := by
  rw [em_X39_isBase]; unfold dm_X39_isBase
  rw [T.sgn (by omega), Option.bind_some]
  by_cases c40 : (wd g n st.1).1 = 5 ∧ (wd g n st.1).2.1 = 40
  rotate_left
  · rw [if_neg c40, if_pos rfl, Wz_0, if_neg (fun z => c40 z.1)]
    exact ⟨t, rfl, T, yRd.rfl⟩
  obtain ⟨w1, z1, e1, T1, K1⟩ := T.next (by omega)
  obtain ⟨T2, K2⟩ := T.back c40.1 K1
  rw [if_pos c40, if_neg (show ¬ (1 : Int) = 0 by decide), e1, Option.bind_some, T1.reg, Option.bind_some]
  have e49 : ∀ y, y = 0 ∨ y = 1 → u_X39_isBase_49 w1 U (jf t 43 U 15) (jf t 43 U 16) (jf t 43 U 17) (jf t 43 U 18) y = some (jp (jp (jp (jp w1 43 U 15 (jf t 43 U 15)) 43 U 16 (jf t 43 U 16)) 43 U 17 (jf t 43 U 17)) 43 U 18 (jf t 43 U 18), y) := fun y hy => by
    rw [eu_X39_isBase_49]; unfold du_X39_isBase_49
    simp only [jls]
    rcases hy with z | z <;> subst z
    · rw [Wz_0]
    · rw [Wz_1]
  show ∃ w, (if pvReg g (wd g n (wd g n st.1).2.2.2) = -1 then _ else _) = _ ∧ _
  by_cases cr : pvReg g (wd g n (wd g n st.1).2.2.2) = -1
  · rw [if_pos cr, if_neg (fun z => z.2 cr), e49 0 (.inl rfl)]
    exact ⟨_, rfl, T2, K2⟩
  · rw [if_neg cr, if_pos ⟨c40, cr⟩, e49 1 (.inr rfl)]
    exact ⟨_, rfl, T2, K2⟩
/-- one is counted, outside an expression -/
theorem tB.tally (T : tB t U g n (q.1, q.2.1, q.2.2, 0) I) : if q.2.2 = 2000 then ∃ w, m_X39_tally t U = some (w, 0) ∧ tFl t w U (if (wd g n q.1).1 = 6 then (wd g n q.1).2.1 else 8) (wd g n q.1).2.2.1 else ∃ w, m_X39_tally t U = some (w, 1) ∧ tB w U g n (q.1, q.2.1, q.2.2 + 1, 1) I ∧ yE t w U := by
  have hf := T.fail (f := 8)
  obtain ⟨T1, T2, T3, T4, T5, ⟨c1, c2, c3, c4, c5⟩, T7, T9⟩ := T
  rw [em_X39_tally]; unfold dm_X39_tally
  have c1' : jf t 43 U 24 = q.2.2 := c1
  have c2' : jf t 43 U 25 = 0 := c2
  have c4' : 0 ≤ q.2.2 := c4
  have c5' : q.2.2 ≤ 2000 := c5
  rw [c1', c2']
  by_cases k1 : q.2.2 = 2000
  · rw [if_pos k1, if_pos k1, eu_X39_tally_19]; unfold du_X39_tally_19
    obtain ⟨w, e, h⟩ := hf
    exact ⟨w, by rw [e, Option.bind_some, Wz_0], h⟩
  rw [if_neg k1, if_neg k1, if_neg (by decide)]
  simp only [jls]
  rw [Wz_1, jf_neg (by omega), c2', W32_in (by omega) (by omega), W32_in (by omega) (by omega)]
  have K : yE t (jp (jp t 43 U 24 (q.2.2 + 1)) 43 U 25 (0 + 1)) U := (yE.rfl.slt (by omega)).slt (by omega)
  have F : ∀ c a j, ¬ (c = 43 ∧ a = U ∧ (j = 24 ∨ j = 25)) → jf (jp (jp t 43 U 24 (q.2.2 + 1)) 43 U 25 (0 + 1)) c a j = jf t c a j := fun c a j h => by rw [jf_neg (by omega), jf_neg (by omega)]
  refine ⟨_, rfl, ⟨T1.ke K, ?_, T3, by rw [F _ _ _ (by omega)]; exact T4, ?_, ⟨by (repeat (first | rw [jf_neg (by omega)] | rw [jf_pos (by omega)] | rw [ou_neg (by omega)] | rw [ou_pos (by omega)])), jf_pos ⟨rfl, rfl, rfl⟩, by show 0 ≤ q.2.2 + 1; omega, by show 0 ≤ q.2.2 + 1; omega, by show q.2.2 + 1 ≤ 2000; omega⟩, ?_, by have T9' : (I.length : Int) ≤ q.2.2 := T9; show (I.length : Int) ≤ q.2.2 + 1; omega⟩, K⟩
  · unfold tkS at T2 ⊢
    rw [F _ _ _ (by omega), F _ _ _ (by omega), F _ _ _ (by omega), F _ _ _ (by omega), F _ _ _ (by omega)]
    exact ⟨T2.1, T2.2.1, T2.2.2.1, T2.2.2.2.1, T2.2.2.2.2.1, T2.2.2.2.2.2.1, fun z => ⟨(T2.2.2.2.2.2.2 z).1, fun j hj => by rw [F _ _ _ (by omega)]; exact (T2.2.2.2.2.2.2 z).2 j hj⟩⟩
  · exact ⟨by rw [F _ _ _ (by omega)]; exact T5.1, T5.2.1, fun i hi => ⟨(T5.2.2 i hi).1, by rw [F _ _ _ (by omega)]; exact (T5.2.2 i hi).2.1, fun j hj => by rw [F _ _ _ (by omega)]; exact (T5.2.2 i hi).2.2 j hj⟩⟩
  · exact ⟨by rw [F _ _ _ (by omega)]; exact T7.1, fun i hi => by rw [F _ _ _ (by omega), F _ _ _ (by omega)]; exact T7.2 i hi⟩
theorem tB.emit (T : tB t U g n st I) (hr : I.length + 1 ≤ st.2.2.1) : ∃ w, m_X39_emit t U o v = some (w, 0) ∧ tB w U g n st (I ++ [(o, v)]) ∧ yE t w U := by
  obtain ⟨T1, T2, T3, T4, T5, T6, T7, T9⟩ := T
  have h2 := T6.2.2.2.2
  obtain ⟨w, e, hi, hm, F⟩ := y_emit0 (o := o) (v := v) T7 (by omega)
  have K : yF t w U := ⟨hm, fun c a k z z1 z2 => F c a k (fun q => z1 ⟨q.1, .inl q.2⟩) z2⟩
  exact ⟨w, e, ⟨T1.ke K.ye, K.tk T2, T3, by rw [F _ _ _ (by omega) (by omega)]; exact T4, K.nm T5, ⟨by rw [F _ _ _ (by omega) (by omega)]; exact T6.1, by rw [F _ _ _ (by omega) (by omega)]; exact T6.2.1, T6.2.2⟩, hi, by rw [show ((I ++ [(o, v)]).length : Int) = I.length + 1 by simp]; omega⟩, K.ye⟩
/-- a value -/
theorem y_val (T : tB t U g n (q.1, q.2.1, q.2.2, 0) I) (h6 : ¬ (wd g n q.1).1 = 6) (k0 : 0 ≤ v6) (k1 : v6 < 5594) (R : rcT t U v6 0 (-1) 0 I.length pl d) : vlOut ((m_X39_isBase t U).bind fun q22 => if q22.2 = 0 then (m_X39_isSign q22.1 U 37).bind fun v23 => if v23 = 0 then (m_X39_expression q22.1 U).bind fun q24 => u_X39_takeOperand_395 q24.1 U v6 q24.2 else (m_X39_marked q22.1 U v6).bind fun q25 => u_X39_takeOperand_395 q25.1 U v6 q25.2 else (m_X39_tally q22.1 U).bind fun q26 => if q26.2 = 0 then some (q26.1, Wz 0) else (m_X39_emit q26.1 U 0 0).bind fun q27 => (m_X39_based q27.1 U v6).bind fun q28 => if q28.2 = 0 then some (q28.1, Wz 0) else u_X39_takeOperand_421 q28.1 U v6) t U g n I v6 pl d (pvVal g n q) := by
  obtain ⟨w1, e1, T1, K1⟩ := y_isBase T
  have e1 : m_X39_isBase t U = some (w1, if ((wd g n q.1).1 = 5 ∧ (wd g n q.1).2.1 = 40) ∧ ¬ pvReg g (wd g n (wd g n q.1).2.2.2) = -1 then 1 else 0) := e1
  have K1' : yW t w1 U (winD v6) := (yE.rfl.rd K1).yw
  have rk : ∀ {u : jS}, (∀ k, jf u 1000 (U + 5) k = jf w1 1000 (U + 5) k) → rcT u U v6 0 (-1) 0 I.length pl d := fun {u} h => by
    have h' : ∀ k, jf u 1000 (U + 5) k = jf t 1000 (U + 5) k := fun k => (h k).trans (K1.2 _ _ _ (by omega) (by omega))
    unfold rcT at R ⊢
    rw [h', h', h', h', h', h']; exact R
  have f395 : ∀ u : jS, u_X39_takeOperand_395 u U v6 0 = some (u, 0) := fun u => by
    rw [eu_X39_takeOperand_395]; unfold du_X39_takeOperand_395
    rw [if_pos rfl, Wz_0]
  rw [e1, Option.bind_some]
  unfold pvVal
  by_cases cb : ((wd g n q.1).1 = 5 ∧ (wd g n q.1).2.1 = 40) ∧ ¬ pvReg g (wd g n (wd g n q.1).2.2.2) = -1
  · rw [if_neg (show ¬ ((wd g n q.1).1 = 5 ∧ (wd g n q.1).2.1 = 37) by omega), if_pos cb, if_pos cb, if_neg (show ¬ (1 : Int) = 0 by decide)]
    have ty := T1.tally
    by_cases c2 : q.2.2 = 2000
    · rw [if_pos c2] at ty ⊢
      obtain ⟨w, x1, x2⟩ := ty
      rw [if_neg h6] at x2
      exact .inl ⟨w, by show (m_X39_tally w1 U).bind _ = _; rw [x1, Option.bind_some, if_pos rfl, Wz_0], x2.fw.after K1'⟩
    rw [if_neg c2] at ty ⊢
    obtain ⟨w2, e2, T2, K2⟩ := ty
    have hI := T1.2.2.2.2.2.2.2
    have hI : (I.length : Int) ≤ q.2.2 := hI
    obtain ⟨w3, e3, T3, K3⟩ := T2.emit (o := 0) (v := 0) (by show (I.length : Int) + 1 ≤ q.2.2 + 1; omega)
    have K23 : yW t w3 U (winD v6) := (K1'.trans K2.yw).trans K3.yw
    have hb := y_based (D := winD v6) T3 h6 k0 k1 ⟨by omega, by omega⟩ ⟨by omega, by omega⟩
    have hb : match pvBased g n (wd g n q.1).2.2.2 with
      | .inl e => ∃ w, m_X39_based w3 U v6 = some (w, 0) ∧ tFW w3 w U (winD v6) e
      | .inr z => ∃ w, m_X39_based w3 U v6 = some (w, 1) ∧ tB w U g n (z.2, q.2.1, q.2.2 + 1, 1) (I ++ [(0, 0)]) ∧ yW w3 w U (winD v6) ∧ jf w 1000 (U + 5) v6 = 2 ∧ jf w 1000 (U + 5) (v6 + 1) = z.1 ∧ ∀ k, ¬ k = v6 → ¬ k = v6 + 1 → jf w 1000 (U + 5) k = jf w3 1000 (U + 5) k := hb
    show vlOut ((m_X39_tally w1 U).bind fun q26 => if q26.2 = 0 then some (q26.1, Wz 0) else (m_X39_emit q26.1 U 0 0).bind fun q27 => (m_X39_based q27.1 U v6).bind fun q28 => if q28.2 = 0 then some (q28.1, Wz 0) else u_X39_takeOperand_421 q28.1 U v6) t U g n I v6 pl d _
    rw [e2, Option.bind_some, if_neg (show ¬ (1 : Int) = 0 by decide), e3, Option.bind_some]
    cases hB : pvBased g n (wd g n q.1).2.2.2 with
    | inl e =>
      rw [hB] at hb
      obtain ⟨w, x1, x2⟩ := hb
      exact .inl ⟨w, by rw [x1, Option.bind_some, if_pos rfl, Wz_0], x2.after K23⟩
    | inr z =>
      rw [hB] at hb
      obtain ⟨w, x1, T4, K4, x4, x5, x6⟩ := hb
      obtain ⟨R0, R1, R2, R3, R5, R6⟩ := rk (u := w3) fun k => (K3.2 _ _ _ (by omega) (by omega) (by omega)).trans (K2.2 _ _ _ (by omega) (by omega) (by omega))
      have R3' : jf w 1000 (U + 5) (v6 + 3) = I.length := by rw [x6 _ (by omega) (by omega)]; exact R3
      refine ⟨jp w 1000 (U + 5) (v6 + 4) ([(0, 0)] : pI).length, 1, by rw [x1, Option.bind_some, if_neg (show ¬ (1 : Int) = 0 by decide), y_421 T4 k0 k1 R3'], T4.rec, yW.rec (K23.trans K4) ⟨by omega, by omega⟩, ⟨?_, ?_, ?_, ?_, ?_, ?_⟩, jf_pos ⟨rfl, rfl, rfl⟩⟩
      · rw [jf_neg (by omega)]; exact x4
      · rw [jf_neg (by omega)]; exact x5
      · rw [jf_neg (by omega), x6 _ (by omega) (by omega)]; exact R2
      · rw [jf_neg (by omega)]; exact R3'
      · rw [jf_neg (by omega), x6 _ (by omega) (by omega)]; exact R5
      · rw [jf_neg (by omega), x6 _ (by omega) (by omega)]; exact R6
  rw [if_neg cb, if_neg cb, if_pos rfl]
  show vlOut ((m_X39_isSign w1 U 37).bind fun v23 => if v23 = 0 then (m_X39_expression w1 U).bind fun q24 => u_X39_takeOperand_395 q24.1 U v6 q24.2 else (m_X39_marked w1 U v6).bind fun q25 => u_X39_takeOperand_395 q25.1 U v6 q25.2) t U g n I v6 pl d _
  rw [T1.sgn (by omega), Option.bind_some]
  show vlOut (if (if (wd g n q.1).1 = 5 ∧ (wd g n q.1).2.1 = 37 then (1 : Int) else 0) = 0 then _ else _) t U g n I v6 pl d _
  by_cases c37 : (wd g n q.1).1 = 5 ∧ (wd g n q.1).2.1 = 37
  · rw [if_pos c37, if_pos c37, if_neg (show ¬ (1 : Int) = 0 by decide)]
    have hm := y_marked (D := winD v6) (q := ((wd g n q.1).2.2.2, q.2)) T1 h6 rfl k0 k1 ⟨by omega, by omega⟩
    cases hM : pvMarked g n ((wd g n q.1).2.2.2, q.2) with
    | inl e =>
      rw [hM] at hm
      obtain ⟨w, x1, x2⟩ := hm
      exact .inl ⟨w, by rw [x1, Option.bind_some, f395], x2.after K1'⟩
    | inr z =>
      rw [hM] at hm
      obtain ⟨w, h, x1, T2, K2, x4, x5⟩ := hm
      obtain ⟨R0, R1, R2, R3, R5, R6⟩ := rk (u := w1) fun k => rfl
      rw [x1, Option.bind_some]
      exact (y_395 (q := z.1) T2 k0 k1 ⟨by rw [x5 _ (by omega)]; exact R0, by rw [x5 _ (by omega)]; exact R1, x4, by rw [x5 _ (by omega)]; exact R3, by rw [x5 _ (by omega)]; exact R5, by rw [x5 _ (by omega)]; exact R6⟩).after (K1'.trans K2)
  · rw [if_neg c37, if_neg c37, if_pos rfl]
    have hs := y_sum (q := q) T1
    cases hS : pvSum g n q with
    | inl e =>
      rw [hS] at hs
      obtain ⟨w, x1, x2⟩ := hs
      exact .inl ⟨w, by rw [x1, Option.bind_some, f395], x2.fw.after K1'⟩
    | inr z =>
      rw [hS] at hs
      obtain ⟨w, h, x1, T2, K2, n6⟩ := hs
      rw [x1, Option.bind_some]
      exact (y_395 (q := z.1) T2 k0 k1 (rk fun k => K2.2 _ _ _ (by omega) (by omega) (by omega))).after (K1'.trans K2.yw)
end jToper3
