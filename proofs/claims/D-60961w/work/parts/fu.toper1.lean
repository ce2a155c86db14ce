/-! the twin's operands: words between expressions, bases, marks -/
section jToper1
variable {s t u w v' : jS} {U n p p' q r k c f v y e d o z a a' b' pl i0 v6 : Int} {g : Int → Int} {l m : List Int} {NL : List (List Int)} {W : wR4} {st st' : pS} {I I' E L L1 L2 : pI} {D D' : Int → Prop}
theorem tB.sgn (T : tB t U g n st I) (hv : 0 ≤ v ∧ v < 256) : m_X39_isSign t U v = some (if (wd g n st.1).1 = 5 ∧ (wd g n st.1).2.1 = v then 1 else 0) := by
  have hs := fun z => wd_sg T.1.2.2.1 T.2.2.1.1 T.2.2.1.2 z
  rw [y_isSign]
  by_cases c5 : (wd g n st.1).1 = 5
  · have h16 := T.2.1.2.2.2.2.2.1 c5
    have := hs c5
    have e : sgT (wd g n st.1).2.1 = v ↔ (wd g n st.1).2.1 = v := by unfold sgT; split <;> (try split) <;> omega
    by_cases c : (wd g n st.1).2.1 = v
    · rw [if_pos ⟨T.2.1.1.trans c5, h16.trans (e.mpr c)⟩, if_pos ⟨c5, c⟩]
    · rw [if_neg (fun z => c (e.mp (h16.symm.trans z.2))), if_neg (fun z => c z.2)]
  · rw [if_neg (fun z => c5 (T.2.1.1.symm.trans z.1)), if_neg (fun z => c5 z.1)]
theorem tB.reg (T : tB t U g n st I) : m_X39_register t U = some (pvReg g (wd g n st.1)) := by
  have h15 := T.2.1.1
  have hn := wd_nm T.1.2.2.1 T.2.2.1.1 T.2.2.1.2
  unfold pvReg
  by_cases c1 : (wd g n st.1).1 = 1
  · rw [if_pos (.inl c1)]; exact y_register (h15.trans c1) (T.2.1.nm T.1 T.2.2.1.1 T.2.2.1.2 (.inl c1))
  · rw [y_regNo (by omega)]
    by_cases c7 : (wd g n st.1).1 = 7
    · rw [if_pos (.inr c7), hn.1 c7, rgO_pt]
    · rw [if_neg (by omega)]
/-- what is kept of the reader's own: everything but what an expression writes and some of an operand -/
def yW (t w : jS) (U : Int) (D : Int → Prop) : Prop := jSm t w ∧ ∀ c a k, ¬ (c = 43 ∧ a = U ∧ (k = 11 ∨ 15 ≤ k ∧ k ≤ 18 ∨ 20 ≤ k ∧ k ≤ 21 ∨ 23 ≤ k ∧ k ≤ 27)) → ¬ (c = 1000 ∧ (a = U + 15 ∨ a = U + 10 ∨ a = U + 6 ∧ k < 4000 ∨ a = U + 7 ∧ k < 2400 ∨ a = U + 8 ∧ k < 150)) → ¬ (c = 1000 ∧ a = U + 3 ∧ (k = 2 ∨ k = 3)) → ¬ (c = 1000 ∧ a = U + 5 ∧ D k) → jf w c a k = jf t c a k
theorem yE.yw (h : yE t w U) : yW t w U D := ⟨h.1, fun c a k z z1 z2 _ => h.2 c a k z z1 z2⟩
theorem yW.trans (h : yW t u U D) (k : yW u w U D) : yW t w U D := ⟨jSm.trans h.1 k.1, fun c a j z z1 z2 z3 => (k.2 c a j z z1 z2 z3).trans (h.2 c a j z z1 z2 z3)⟩
theorem yW.mono (h : yW t w U D) (e : ∀ k, D k → D' k) : yW t w U D' := ⟨h.1, fun c a k z z1 z2 z3 => h.2 c a k z z1 z2 fun q => z3 ⟨q.1, q.2.1, e _ q.2.2⟩⟩
theorem yW.rec (h : yW t u U D) (hk : D k) : yW t (jp u 1000 (U + 5) k v) U D := ⟨h.1.jp, fun c a j z z1 z2 z3 => by rw [jf_neg (fun q => z3 ⟨q.1, q.2.1, by rw [q.2.2]; exact hk⟩)]; exact h.2 c a j z z1 z2 z3⟩
theorem yW.slt (h : yW t u U D) (hk : k = 11 ∨ 15 ≤ k ∧ k ≤ 18 ∨ 20 ≤ k ∧ k ≤ 21 ∨ 23 ≤ k ∧ k ≤ 27) : yW t (jp u 43 U k v) U D := ⟨h.1.jp, fun c a j z z1 z2 z3 => by rw [jf_neg (fun q => z ⟨q.1, q.2.1, by rw [q.2.2]; exact hk⟩)]; exact h.2 c a j z z1 z2 z3⟩
/-- the reader is kept by writes elsewhere -/
theorem tB.kp (T : tB t U g n st I) (F : jSm t w ∧ ∀ c a k, ¬ (c = 43 ∧ a = U ∧ (k = 12 ∨ k = 19)) → ¬ (c = 1000 ∧ (a = U + 4 ∨ a = U + 5 ∨ a = U + 9 ∨ a = U + 16 ∨ a = U + 3 ∧ (k = 0 ∨ k = 1))) → jf w c a k = jf t c a k) : tB w U g n st I := by
  obtain ⟨T1, T2, T3, T4, T5, T6, T7, T9⟩ := T
  obtain ⟨h1, F⟩ := F
  refine ⟨⟨by rw [F _ _ _ (by omega) (by omega)]; exact T1.1, fun j j0 j1 => by rw [F _ _ _ (by omega) (by omega)]; exact T1.2.1 j j0 j1, T1.2.2⟩, ?_, T3, by rw [F _ _ _ (by omega) (by omega)]; exact T4, ⟨by rw [F _ _ _ (by omega) (by omega)]; exact T5.1, T5.2.1, fun i hi => ⟨(T5.2.2 i hi).1, by rw [F _ _ _ (by omega) (by omega)]; exact (T5.2.2 i hi).2.1, fun j hj => by rw [F _ _ _ (by omega) (by omega)]; exact (T5.2.2 i hi).2.2 j hj⟩⟩, ⟨by rw [F _ _ _ (by omega) (by omega)]; exact T6.1, by rw [F _ _ _ (by omega) (by omega)]; exact T6.2.1, T6.2.2⟩, ⟨by rw [F _ _ _ (by omega) (by omega)]; exact T7.1, fun i hi => by rw [F _ _ _ (by omega) (by omega), F _ _ _ (by omega) (by omega)]; exact T7.2 i hi⟩, T9⟩
  unfold tkS at T2 ⊢
  rw [F _ _ _ (by omega) (by omega), F _ _ _ (by omega) (by omega), F _ _ _ (by omega) (by omega), F _ _ _ (by omega) (by omega), F _ _ _ (by omega) (by omega)]
  exact ⟨T2.1, T2.2.1, T2.2.2.1, T2.2.2.2.1, T2.2.2.2.2.1, T2.2.2.2.2.2.1, fun z => ⟨(T2.2.2.2.2.2.2 z).1, fun j hj => by rw [F _ _ _ (by omega) (by omega)]; exact (T2.2.2.2.2.2.2 z).2 j hj⟩⟩
theorem tB.rec (T : tB t U g n st I) : tB (jp t 1000 (U + 5) k v) U g n st I := T.kp ⟨jSm.rfl.jp, fun c a j _ z => jf_neg (by omega)⟩
theorem tB.next (T : tB t U g n st I) (h6 : ¬ (wd g n st.1).1 = 6) : ∃ w z, m_X39_next t U = some (w, z) ∧ tB w U g n ((wd g n st.1).2.2.2, st.2) I ∧ yRd t w U := by
  have hw := wd_in T.1.2.2.1 T.2.2.1.1 T.2.2.1.2
  have h7 := hw.2.2.2.1 h6
  have h18 := T.2.1.2.2.2.1 h6
  obtain ⟨q, e, K, h⟩ := y_next T.1 h18 (by have := T.2.2.1.1; omega) h7.2.1
  obtain ⟨T1, T2, T3, T4, T5, T6, T7, T9⟩ := T
  have F : ∀ c a j, ¬ (c = 43 ∧ a = U ∧ (j = 11 ∨ 15 ≤ j ∧ j ≤ 18)) → ¬ (c = 1000 ∧ a = U + 15) → jf q.1 c a j = jf t c a j := K.2
  exact ⟨q.1, q.2, e, ⟨T1.kp K, h, ⟨by show 0 ≤ (wd g n st.1).2.2.2; omega, h7.2.1⟩, by rw [F _ _ _ (by omega) (by omega)]; exact T4, ⟨by rw [F _ _ _ (by omega) (by omega)]; exact T5.1, T5.2.1, fun i hi => ⟨(T5.2.2 i hi).1, by rw [F _ _ _ (by omega) (by omega)]; exact (T5.2.2 i hi).2.1, fun j hj => by rw [F _ _ _ (by omega) (by omega)]; exact (T5.2.2 i hi).2.2 j hj⟩⟩, ⟨by rw [F _ _ _ (by omega) (by omega)]; exact T6.1, by rw [F _ _ _ (by omega) (by omega)]; exact T6.2.1, T6.2.2⟩, ⟨by rw [F _ _ _ (by omega) (by omega)]; exact T7.1, fun i hi => by rw [F _ _ _ (by omega) (by omega), F _ _ _ (by omega) (by omega)]; exact T7.2 i hi⟩, T9⟩, K⟩
theorem tB.fail (T : tB t U g n st I) : ∃ w, m_X39_fail t U f = some (w, 0) ∧ tFl t w U (if (wd g n st.1).1 = 6 then (wd g n st.1).2.1 else f) (wd g n st.1).2.2.1 := y_fail T.2.1 T.2.2.2.1
/-- a fault is told, some of an operand may be written -/
def tFW (t w : jS) (U : Int) (D : Int → Prop) (e : fE) : Prop := yW t w U D ∧ jf w 43 U 20 = e.1 ∧ jf w 43 U 21 = e.2
theorem tFl.fw (h : tFl t w U f p) : tFW t w U D (f, p) := ⟨h.1.yw, h.2⟩
theorem tFW.after {e : fE} (h : tFW u w U D e) (k : yW t u U D) : tFW t w U D e := ⟨k.trans h.1, h.2⟩
/-- the sign c and what is behind it: `closes` -/
theorem y_closes (T : tB t U g n st I) : match pvNeed g n st.1 41 with
    | .inl e => ∃ w, m_X39_closes t U = some (w, 0) ∧ tFW t w U D e
    | .inr p => ∃ w, m_X39_closes t U = some (w, 1) ∧ tB w U g n (p, st.2) I ∧ yW t w U D := by
  rw [em_X39_closes]; unfold dm_X39_closes pvNeed
  rw [T.sgn (by omega), Option.bind_some]
  have fl : ∃ w, (m_X39_fail t U 5).bind (fun q => some (q.1, Wz q.2)) = some (w, 0) ∧ tFl t w U (if (wd g n st.1).1 = 6 then (wd g n st.1).2.1 else 5) (wd g n st.1).2.2.1 := by
    obtain ⟨w, e, h⟩ := T.fail (f := 5)
    exact ⟨w, by rw [e, Option.bind_some, Wz_0], h⟩
  by_cases c6 : (wd g n st.1).1 = 6
  · rw [if_pos c6, if_neg (show ¬ ((wd g n st.1).1 = 5 ∧ (wd g n st.1).2.1 = 41) by omega), if_pos rfl]
    obtain ⟨w, e, h⟩ := fl
    rw [if_pos c6] at h
    exact ⟨w, e, h.fw⟩
  rw [if_neg c6]
  by_cases c : (wd g n st.1).1 = 5 ∧ (wd g n st.1).2.1 = 41
  · rw [if_pos c, if_pos c, if_neg (by decide)]
    obtain ⟨w, z, e, T1, K⟩ := T.next c6
    exact ⟨w, by rw [e, Option.bind_some, Wz_1], T1, (yE.rfl.rd K).yw⟩
  · rw [if_neg c, if_neg c, if_pos rfl]
    obtain ⟨w, e, h⟩ := fl
    rw [if_neg c6] at h
    exact ⟨w, e, h.fw⟩
theorem y_based (T : tB t U g n st I) (h6 : ¬ (wd g n st.1).1 = 6) (k0 : 0 ≤ v6) (k1 : v6 < 5594) (D0 : D v6) (D1 : D (v6 + 1)) : match pvBased g n (wd g n st.1).2.2.2 with
    | .inl e => ∃ w, m_X39_based t U v6 = some (w, 0) ∧ tFW t w U D e
    | .inr z => ∃ w, m_X39_based t U v6 = some (w, 1) ∧ tB w U g n (z.2, st.2) I ∧ yW t w U D ∧ jf w 1000 (U + 5) v6 = 2 ∧ jf w 1000 (U + 5) (v6 + 1) = z.1 ∧ ∀ k, ¬ k = v6 → ¬ k = v6 + 1 → jf w 1000 (U + 5) k = jf t 1000 (U + 5) k := by
  rw [em_X39_based]; unfold dm_X39_based
  obtain ⟨w1, z1, e1, T1, K1⟩ := T.next h6
  rw [e1, Option.bind_some, T1.reg, Option.bind_some]
  unfold pvBased
  have K1' : yW t w1 U D := (yE.rfl.rd K1).yw
  have fl : ∃ w, (m_X39_fail w1 U 5).bind (fun q => some (q.1, Wz q.2)) = some (w, 0) ∧ tFl w1 w U (if (wd g n (wd g n st.1).2.2.2).1 = 6 then (wd g n (wd g n st.1).2.2.2).2.1 else 5) (wd g n (wd g n st.1).2.2.2).2.2.1 := by
    obtain ⟨w, e, h⟩ := T1.fail (f := 5)
    exact ⟨w, by rw [e, Option.bind_some, Wz_0], h⟩
  by_cases c6 : (wd g n (wd g n st.1).2.2.2).1 = 6
  · rw [if_pos c6, if_pos (by show pvReg g (wd g n (wd g n st.1).2.2.2) = -1; unfold pvReg; rw [if_neg (by omega)])]
    obtain ⟨w, e, h⟩ := fl
    rw [if_pos c6] at h
    exact ⟨w, e, h.fw.after K1'⟩
  rw [if_neg c6]
  by_cases cr : pvReg g (wd g n (wd g n st.1).2.2.2) = -1
  · rw [if_pos cr, if_pos cr]
    obtain ⟨w, e, h⟩ := fl
    rw [if_neg c6] at h
    exact ⟨w, e, h.fw.after K1'⟩
  rw [if_neg cr, if_neg cr, jst_in (by omega) (by omega), Option.bind_some, W32_in (by omega) (by omega), jst_in (by omega) (by omega), Option.bind_some]
  have T2 : tB (jp (jp w1 1000 (U + 5) v6 2) 1000 (U + 5) (v6 + 1) (pvReg g (wd g n (wd g n st.1).2.2.2))) U g n ((wd g n st.1).2.2.2, st.2) I := T1.rec.rec
  obtain ⟨w3, z3, e3, T3, K3⟩ := T2.next c6
  have h3 := y_closes (D := D) T3
  have K2 : yW t w3 U D := (yW.trans K1' ((yW.rec (yW.rec (yE.rfl.yw) D0) D1))).trans (yE.rfl.rd K3).yw
  rw [e3, Option.bind_some]
  cases hN : pvNeed g n (wd g n (wd g n st.1).2.2.2).2.2.2 41 with
  | inl e =>
    rw [hN] at h3
    obtain ⟨w, e4, hf⟩ := h3
    exact ⟨w, by show (m_X39_closes w3 U).bind _ = _; rw [e4, Option.bind_some, Wz_0], hf.after K2⟩
  | inr p =>
    rw [hN] at h3
    obtain ⟨w, e4, T4, K4⟩ := h3
    have K5 : yW w3 w U (fun _ => False) := by
      have h3' := y_closes (D := fun _ => False) T3
      rw [hN] at h3'
      obtain ⟨w', e4', -, K⟩ := h3'
      rw [e4] at e4'
      have : w = w' := congrArg Prod.fst (Option.some.inj e4')
      rw [this]; exact K
    have G : ∀ k, jf w 1000 (U + 5) k = jf (jp (jp w1 1000 (U + 5) v6 2) 1000 (U + 5) (v6 + 1) (pvReg g (wd g n (wd g n st.1).2.2.2))) 1000 (U + 5) k := fun k => (K5.2 _ _ _ (by omega) (by omega) (by omega) (fun z => z.2.2)).trans (K3.2 _ _ _ (by omega) (by omega))
    refine ⟨w, by show (m_X39_closes w3 U).bind _ = _; rw [e4, Option.bind_some, Wz_1], T4, K2.trans K4, ?_, ?_, fun k z0 z1 => ?_⟩
    · rw [G, jf_neg (by omega), jf_pos ⟨rfl, rfl, rfl⟩]
    · rw [G, jf_pos ⟨rfl, rfl, rfl⟩]
    · rw [G, jf_neg (by omega), jf_neg (by omega), K1.2 _ _ _ (by omega) (by omega)]
end jToper1
