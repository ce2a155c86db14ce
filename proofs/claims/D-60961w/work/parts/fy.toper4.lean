/-! the twin's operands: one operand -/
section jToper4
variable {s t u w v' : jS} {U n p p' q' r k c f v y e d o z a a' b' pl v6 mk i0 : Int} {g : Int → Int} {l m : List Int} {NL : List (List Int)} {W : wR4} {st st' : pS} {I I' E L L1 L2 : pI} {D D' : Int → Prop} {q : qS}
/-- an operand is there -/
def opT (t : jS) (U i : Int) (x : pvO) : Prop := rcT t U (7 * i) x.1 x.2.1 x.2.2.1 x.2.2.2.1 x.2.2.2.2.2.1 x.2.2.2.2.2.2.length ∧ jf t 1000 (U + 5) (7 * i + 4) = x.2.2.2.2.1 ∧ (¬ x.2.2.2.2.2.2 = [] → 0 ≤ jf t 1000 (U + 16) i ∧ jf t 1000 (U + 16) i + x.2.2.2.2.2.2.length ≤ jf t 43 U 12 ∧ ∀ j : Nat, j < x.2.2.2.2.2.2.length → jf t 1000 (U + 9) (jf t 1000 (U + 16) i + j) = x.2.2.2.2.2.2.getD j 0)
/-- what reading operand i may write -/
def yO (t w : jS) (U i : Int) : Prop := (jSm t w ∧ jf t 43 U 12 ≤ jf w 43 U 12) ∧ ∀ c a k, ¬ (c = 43 ∧ a = U ∧ (k = 11 ∨ k = 12 ∨ 15 ≤ k ∧ k ≤ 18 ∨ 20 ≤ k ∧ k ≤ 21 ∨ 23 ≤ k ∧ k ≤ 27)) → ¬ (c = 1000 ∧ (a = U + 15 ∨ a = U + 10 ∨ a = U + 6 ∧ k < 4000 ∨ a = U + 7 ∧ k < 2400 ∨ a = U + 8 ∧ k < 150 ∨ a = U + 5 ∧ 7 * i ≤ k ∧ k < 7 * i + 7 ∨ a = U + 16 ∧ k = i ∨ a = U + 9 ∧ jf t 43 U 12 ≤ k ∧ k < 3000)) → ¬ (c = 1000 ∧ a = U + 3 ∧ (k = 1 ∨ k = 2 ∨ k = 3)) → jf w c a k = jf t c a k
theorem yW.yo {i : Int} (h : yW t w U (winD (7 * i))) : yO t w U i := ⟨⟨h.1, by rw [h.2 43 U 12 (by omega) (by omega) (by omega) (by omega)]; omega⟩, fun c a k z z1 z2 => h.2 c a k (fun q => z ⟨q.1, q.2.1, by omega⟩) (fun q => z1 ⟨q.1, by omega⟩) (fun q => z2 ⟨q.1, q.2.1, by omega⟩) (fun q => z1 ⟨q.1, by have := q.2.2; unfold winD at this; omega⟩)⟩
theorem yO.trans {i : Int} (h : yO t u U i) (k : yO u w U i) : yO t w U i := ⟨⟨jSm.trans h.1.1 k.1.1, by have := h.1.2; have := k.1.2; omega⟩, fun c a j z z1 z2 => (k.2 c a j z (by have := h.1.2; omega) z2).trans (h.2 c a j z z1 z2)⟩
theorem opT.kp {i j : Int} {x : pvO} (h : opT t U j x) (k : yO t w U i) (hj : ¬ j = i) : opT w U j x := by
  obtain ⟨⟨R0, R1, R2, R3, R5, R6⟩, R4, R7⟩ := h
  obtain ⟨⟨h1, h2⟩, F⟩ := k
  refine ⟨⟨?_, ?_, ?_, ?_, ?_, ?_⟩, ?_, fun hx => ?_⟩
  · rw [F _ _ _ (by omega) (by omega) (by omega)]; exact R0
  · rw [F _ _ _ (by omega) (by omega) (by omega)]; exact R1
  · rw [F _ _ _ (by omega) (by omega) (by omega)]; exact R2
  · rw [F _ _ _ (by omega) (by omega) (by omega)]; exact R3
  · rw [F _ _ _ (by omega) (by omega) (by omega)]; exact R5
  · rw [F _ _ _ (by omega) (by omega) (by omega)]; exact R6
  · rw [F _ _ _ (by omega) (by omega) (by omega)]; exact R4
  · obtain ⟨s1, s2, s3⟩ := R7 hx
    rw [F 1000 (U + 16) j (by omega) (by omega) (by omega)]
    exact ⟨s1, by omega, fun i hi => by rw [F _ _ _ (by omega) (by omega) (by omega)]; exact s3 i hi⟩
/-- what a line may write -/
def yA (t w : jS) (U : Int) : Prop := jSm t w ∧ ∀ c a k, ¬ (c = 43 ∧ a = U ∧ (k = 11 ∨ k = 12 ∨ 15 ≤ k ∧ k ≤ 18 ∨ 20 ≤ k ∧ k ≤ 21 ∨ 23 ≤ k ∧ k ≤ 27)) → ¬ (c = 1000 ∧ (a = U + 15 ∨ a = U + 10 ∨ a = U + 6 ∧ k < 4000 ∨ a = U + 7 ∧ k < 2400 ∨ a = U + 8 ∧ k < 150 ∨ a = U + 5 ∧ k < 5600 ∨ a = U + 16 ∧ k < 800 ∨ a = U + 9 ∧ k < 3000 ∨ a = U + 4 ∧ k < 2400)) → ¬ (c = 1000 ∧ a = U + 3 ∧ 0 ≤ k ∧ k < 4) → jf w c a k = jf t c a k
theorem yA.rfl : yA t t U := ⟨jSm.rfl, fun _ _ _ _ _ _ => Eq.refl _⟩
theorem yA.trans (h : yA t u U) (k : yA u w U) : yA t w U := ⟨jSm.trans h.1 k.1, fun c a j z z1 z2 => (k.2 c a j z z1 z2).trans (h.2 c a j z z1 z2)⟩
theorem yO.ya {i : Int} (h : yO t w U i) (hi : i < 800) : yA t w U := ⟨h.1.1, fun c a k z z1 z2 => h.2 c a k z (by omega) (by omega)⟩
theorem yRd.ya (h : yRd t w U) : yA t w U := ⟨h.1, fun c a k z z1 _ => h.2 c a k (by omega) (by omega)⟩
theorem yE.ya (h : yE t w U) : yA t w U := ⟨h.1, fun c a k z z1 z2 => h.2 c a k (by omega) (by omega) (by omega)⟩
theorem yA.wr4 (h : yA t w U) (hk : 0 ≤ k ∧ k < 2400) : yA t (jp w 1000 (U + 4) k v) U := ⟨h.1.jp, fun c a j z z1 z2 => by rw [jf_neg (by omega)]; exact h.2 c a j z z1 z2⟩
/-- a fault is told -/
def tFO (t w : jS) (U : Int) (e : fE) : Prop := yA t w U ∧ jf w 43 U 20 = e.1 ∧ jf w 43 U 21 = e.2
def opOut (x : Option (jS × Int)) (t : jS) (U : Int) (g : Int → Int) (n : Int) (I : pI) (i : Int) (pr : fE ⊕ (qS × pI × pvO)) : Prop := match pr with
  | .inl e => (∃ w, x = some (w, 0) ∧ tFO t w U e) ∨ (∃ w st' I', x = some (w, 1) ∧ tB w U g n st' I' ∧ (wd g n st'.1).1 = 6 ∧ e = ((wd g n st'.1).2.1, (wd g n st'.1).2.2.1) ∧ yA t w U)
  | .inr z => ∃ w h, x = some (w, 1) ∧ tB w U g n (z.1.1, z.1.2.1, z.1.2.2, h) (I ++ z.2.1) ∧ opT w U i z.2.2 ∧ jf w 1000 (U + 3) 1 = i + 1 ∧ (0 ≤ jf w 43 U 12 ∧ jf w 43 U 12 ≤ z.1.1) ∧ yO t w U i
theorem tB.z25 {h : Int} (T : tB t U g n (q.1, q.2.1, q.2.2, h) I) : tB (jp t 43 U 25 0) U g n (q.1, q.2.1, q.2.2, 0) I := by
  obtain ⟨T1, T2, T3, T4, T5, ⟨c1, c2, c3, c4, c5⟩, T7, T9⟩ := T
  have K : yE t (jp t 43 U 25 0) U := yE.rfl.slt (by omega)
  have F : ∀ c a j, ¬ (c = 43 ∧ a = U ∧ j = 25) → jf (jp t 43 U 25 0) c a j = jf t c a j := fun c a j h => by rw [jf_neg (by omega)]
  refine ⟨T1.ke K, ?_, T3, by rw [F _ _ _ (by omega)]; exact T4, ?_, ⟨by rw [F _ _ _ (by omega)]; exact c1, jf_pos ⟨rfl, rfl, rfl⟩, c3, c4, c5⟩, ?_, T9⟩
  · unfold tkS at T2 ⊢
    rw [F _ _ _ (by omega), F _ _ _ (by omega), F _ _ _ (by omega), F _ _ _ (by omega), F _ _ _ (by omega)]
    exact ⟨T2.1, T2.2.1, T2.2.2.1, T2.2.2.2.1, T2.2.2.2.2.1, T2.2.2.2.2.2.1, fun z => ⟨(T2.2.2.2.2.2.2 z).1, fun j hj => by rw [F _ _ _ (by omega)]; exact (T2.2.2.2.2.2.2 z).2 j hj⟩⟩
  · exact ⟨by rw [F _ _ _ (by omega)]; exact T5.1, T5.2.1, fun i hi => ⟨(T5.2.2 i hi).1, by rw [F _ _ _ (by omega)]; exact (T5.2.2 i hi).2.1, fun j hj => by rw [F _ _ _ (by omega)]; exact (T5.2.2 i hi).2.2 j hj⟩⟩
  · exact ⟨by rw [F _ _ _ (by omega)]; exact T7.1, fun i hi => by rw [F _ _ _ (by omega), F _ _ _ (by omega)]; exact T7.2 i hi⟩
theorem vlOut.op {i : Int} {x : Option (jS × Int)} (hi : i < 800) (hv : vlOut x u U g n I (7 * i) pl 0 (pvVal g n q)) (k : yO t u U i) (hu : jf u 1000 (U + 3) 1 = i + 1) (h12 : jf u 43 U 12 = jf t 43 U 12) (hL : 0 ≤ jf t 43 U 12 ∧ jf t 43 U 12 ≤ q.1) (hb : byG g n) (p0 : 0 ≤ q.1) (p1 : q.1 ≤ n) (h2 : q.2.2 ≤ 2000) : opOut x t U g n I i (match pvVal g n q with
    | .inl e => .inl e
    | .inr v => .inr (v.1, v.2.1, (v.2.2.1, v.2.2.2.1, v.2.2.2.2, I.length, v.2.1.length, pl, []))) := by
  cases hV : pvVal g n q with
  | inl e =>
    rw [hV] at hv
    rcases hv with ⟨w, h1, h3⟩ | ⟨w, st', I', h1, h3, h4, h5, h6⟩
    · exact .inl ⟨w, h1, (k.trans h3.1.yo).ya hi, h3.2⟩
    · exact .inr ⟨w, st', I', h1, h3, h4, h5, (k.trans h6.yo).ya hi⟩
  | inr v =>
    have ok := pvVal_ok hb p0 p1 h2 hV
    rw [hV] at hv
    obtain ⟨w, h, h1, h3, h4, h5, h6⟩ := hv
    have e12 : jf w 43 U 12 = jf u 43 U 12 := h4.2 _ _ _ (by omega) (by omega) (by omega) (by omega)
    have e31 : jf w 1000 (U + 3) 1 = jf u 1000 (U + 3) 1 := h4.2 _ _ _ (by omega) (by omega) (by omega) (by omega)
    exact ⟨w, h, h1, h3, ⟨h5, h6, fun z => absurd rfl z⟩, e31.trans hu, by show 0 ≤ jf w 43 U 12 ∧ jf w 43 U 12 ≤ v.1.1; omega, k.trans h4.yo⟩
theorem y_first (T : tB t U g n st I) : m_X39_takeOperand t U = u_X39_takeOperand_82 t U (cif (isFst (wd g n st.1)) 1 0) := by
  rw [em_X39_takeOperand]; unfold dm_X39_takeOperand
  rw [T.2.1.1, T.sgn (by omega), T.sgn (by omega), T.sgn (by omega), T.sgn (by omega)]
  have e77 : u_X39_takeOperand_77 t U = u_X39_takeOperand_82 t U 1 := by
    rw [eu_X39_takeOperand_77]; unfold du_X39_takeOperand_77; rfl
  rw [e77]
  have yes : isFst (wd g n st.1) → u_X39_takeOperand_82 t U 1 = u_X39_takeOperand_82 t U (cif (isFst (wd g n st.1)) 1 0) := fun z => by rw [cif_pos z]
  by_cases c1 : (wd g n st.1).1 = 1
  · rw [if_pos c1]; exact yes (by unfold isFst; omega)
  rw [if_neg c1]
  by_cases c2 : (wd g n st.1).1 = 2
  · rw [if_pos c2]; exact yes (by unfold isFst; omega)
  rw [if_neg c2]
  by_cases c3 : (wd g n st.1).1 = 3
  · rw [if_pos c3]; exact yes (by unfold isFst; omega)
  rw [if_neg c3]
  by_cases c7 : (wd g n st.1).1 = 7
  · rw [if_pos c7]; exact yes (by unfold isFst; omega)
  rw [if_neg c7]
  by_cases c4 : (wd g n st.1).1 = 4
  · rw [if_pos c4]; exact yes (by unfold isFst; omega)
  rw [if_neg c4]
  by_cases d1 : (wd g n st.1).1 = 5 ∧ (wd g n st.1).2.1 = 37
  · rw [if_pos d1, Option.bind_some, if_neg (show ¬ (1 : Int) = 0 by decide)]; exact yes (by unfold isFst; omega)
  rw [if_neg d1, Option.bind_some, if_pos rfl]
  by_cases d2 : (wd g n st.1).1 = 5 ∧ (wd g n st.1).2.1 = 40
  · rw [if_pos d2, Option.bind_some, if_neg (show ¬ (1 : Int) = 0 by decide)]; exact yes (by unfold isFst; omega)
  rw [if_neg d2, Option.bind_some, if_pos rfl]
  by_cases d3 : (wd g n st.1).1 = 5 ∧ (wd g n st.1).2.1 = 45
  · rw [if_pos d3, Option.bind_some, if_neg (show ¬ (1 : Int) = 0 by decide)]; exact yes (by unfold isFst; omega)
  rw [if_neg d3, Option.bind_some, if_pos rfl]
  by_cases d4 : (wd g n st.1).1 = 5 ∧ (wd g n st.1).2.1 = 126
  · rw [if_pos d4, Option.bind_some, if_neg (show ¬ (1 : Int) = 0 by decide)]; exact yes (by unfold isFst; omega)
  rw [if_neg d4, Option.bind_some, if_pos rfl, cif_neg (by unfold isFst; omega)]
/-- a string as an operand -/
theorem y_strop {i : Nat} (T : tB s U g n (q.1, q.2.1, q.2.2, 0) I) (c4 : (wd g n q.1).1 = 4) (hi : i ≤ 800) (hi' : ¬ i = 800) (R : rcT s U (7 * (i : Int)) 0 (-1) 0 I.length (wd g n q.1).2.2.1 0) (h31 : jf s 1000 (U + 3) 1 = i + 1) (h12 : jf s 43 U 12 = jf t 43 U 12) (hL : 0 ≤ jf t 43 U 12 ∧ jf t 43 U 12 ≤ q.1) (K0 : yO t s U i) : opOut ((jst s 1000 (U + 5) 11200 (7 * (i : Int)) 3).bind fun s17 => (jst s17 1000 (U + 5) 11200 (7 * (i : Int) + 1) (-1)).bind fun s18 => (jst s18 1000 (U + 5) 11200 (7 * (i : Int) + 6) (jf s18 43 U 11)).bind fun s19 => (jlt s19 1000 (U + 3) 8 1).bind fun v20 => (jst s19 1000 (U + 16) 1600 (W32 (v20 - 1)) (jf s19 43 U 12)).bind fun s21 => u_X39_takeOperand_260 s21 U (7 * (i : Int)) 0) t U g n I i (.inr (((wd g n q.1).2.2.2, q.2), [], (3, -1, 0, I.length, 0, (wd g n q.1).2.2.1, stB g n (wd g n q.1).2.2.1))) := by
  have hb := T.1.2.2.1
  have hn := T.1.2.2.2
  have hp : 0 ≤ q.1 ∧ q.1 ≤ n := T.2.2.1
  have hw := wd_in hb hp.1 hp.2
  have c6 : ¬ (wd g n q.1).1 = 6 := by omega
  have h7 := hw.2.2.2.1 c6
  have hs := wd_st hb hp.1 hp.2 c4
  obtain ⟨R0, R1, R2, R3, R5, R6⟩ := R
  obtain ⟨t11, tsp⟩ := T.2.1.2.2.2.2.2.2 c4
  have t11 : jf s 43 U 11 = (stM g n (wd g n q.1).2.2.1 : Nat) := t11
  have tsp : ∀ j : Nat, j < stM g n (wd g n q.1).2.2.1 → jf s 1000 (U + 15) j = inV g n (stQ g n (wd g n q.1).2.2.1 j) := tsp
  have lenB : (stB g n (wd g n q.1).2.2.1).length = stM g n (wd g n q.1).2.2.1 := by unfold stB; simp
  have atB : ∀ j : Nat, j < stM g n (wd g n q.1).2.2.1 → (stB g n (wd g n q.1).2.2.1).getD j 0 = inV g n (stQ g n (wd g n q.1).2.2.1 j) := fun j hj => by
    unfold stB
    rw [List.getD_eq_getElem?_getD, List.getElem?_map, List.getElem?_range hj]; rfl
  generalize hm : stM g n (wd g n q.1).2.2.1 = m at *
  rw [jst_in (by omega) (by omega), Option.bind_some, jst_in (by omega) (by omega), Option.bind_some, jf_neg (by omega), jf_neg (by omega), t11, jst_in (by omega) (by omega), Option.bind_some, jlt_in (by omega) (by omega), Option.bind_some, jf_neg (by omega), jf_neg (by omega), jf_neg (by omega), h31, jf_neg (by omega), jf_neg (by omega), jf_neg (by omega), h12, W32_in (by omega) (by omega), show (i : Int) + 1 - 1 = i by omega, jst_in (by omega) (by omega), Option.bind_some]
  have T2 : tB (jp (jp (jp (jp s 1000 (U + 5) (7 * (i : Int)) 3) 1000 (U + 5) (7 * (i : Int) + 1) (-1)) 1000 (U + 5) (7 * (i : Int) + 6) (m : Int)) 1000 (U + 16) i (jf t 43 U 12)) U g n (q.1, q.2.1, q.2.2, 0) I := (((T.rec).rec).rec).kp ⟨jSm.rfl.jp, fun c a j _ z => jf_neg (by omega)⟩
  have F2 : ∀ c a k, ¬ (c = 1000 ∧ a = U + 5 ∧ 7 * (i : Int) ≤ k ∧ k < 7 * (i : Int) + 7) → ¬ (c = 1000 ∧ a = U + 16 ∧ k = i) → jf (jp (jp (jp (jp s 1000 (U + 5) (7 * (i : Int)) 3) 1000 (U + 5) (7 * (i : Int) + 1) (-1)) 1000 (U + 5) (7 * (i : Int) + 6) (m : Int)) 1000 (U + 16) i (jf t 43 U 12)) c a k = jf s c a k := fun c a k z z1 => by rw [jf_neg (by omega), jf_neg (by omega), jf_neg (by omega), jf_neg (by omega)]
  have S2 : jSm s (jp (jp (jp (jp s 1000 (U + 5) (7 * (i : Int)) 3) 1000 (U + 5) (7 * (i : Int) + 1) (-1)) 1000 (U + 5) (7 * (i : Int) + 6) (m : Int)) 1000 (U + 16) i (jf t 43 U 12)) := (((jSm.rfl.jp).jp).jp).jp
  have g0 : jf (jp (jp (jp (jp s 1000 (U + 5) (7 * (i : Int)) 3) 1000 (U + 5) (7 * (i : Int) + 1) (-1)) 1000 (U + 5) (7 * (i : Int) + 6) (m : Int)) 1000 (U + 16) i (jf t 43 U 12)) 1000 (U + 5) (7 * (i : Int)) = 3 := by (repeat (first | rw [jf_neg (by omega)] | rw [jf_pos (by omega)] | rw [ou_neg (by omega)] | rw [ou_pos (by omega)]))
  have g1 : jf (jp (jp (jp (jp s 1000 (U + 5) (7 * (i : Int)) 3) 1000 (U + 5) (7 * (i : Int) + 1) (-1)) 1000 (U + 5) (7 * (i : Int) + 6) (m : Int)) 1000 (U + 16) i (jf t 43 U 12)) 1000 (U + 5) (7 * (i : Int) + 1) = -1 := by (repeat (first | rw [jf_neg (by omega)] | rw [jf_pos (by omega)] | rw [ou_neg (by omega)] | rw [ou_pos (by omega)]))
  have g6 : jf (jp (jp (jp (jp s 1000 (U + 5) (7 * (i : Int)) 3) 1000 (U + 5) (7 * (i : Int) + 1) (-1)) 1000 (U + 5) (7 * (i : Int) + 6) (m : Int)) 1000 (U + 16) i (jf t 43 U 12)) 1000 (U + 5) (7 * (i : Int) + 6) = m := by (repeat (first | rw [jf_neg (by omega)] | rw [jf_pos (by omega)] | rw [ou_neg (by omega)] | rw [ou_pos (by omega)]))
  have g2 : jf (jp (jp (jp (jp s 1000 (U + 5) (7 * (i : Int)) 3) 1000 (U + 5) (7 * (i : Int) + 1) (-1)) 1000 (U + 5) (7 * (i : Int) + 6) (m : Int)) 1000 (U + 16) i (jf t 43 U 12)) 1000 (U + 5) (7 * (i : Int) + 2) = 0 := by rw [jf_neg (by omega), jf_neg (by omega), jf_neg (by omega), jf_neg (by omega)]; exact R2
  have g3 : jf (jp (jp (jp (jp s 1000 (U + 5) (7 * (i : Int)) 3) 1000 (U + 5) (7 * (i : Int) + 1) (-1)) 1000 (U + 5) (7 * (i : Int) + 6) (m : Int)) 1000 (U + 16) i (jf t 43 U 12)) 1000 (U + 5) (7 * (i : Int) + 3) = I.length := by rw [jf_neg (by omega), jf_neg (by omega), jf_neg (by omega), jf_neg (by omega)]; exact R3
  have g5 : jf (jp (jp (jp (jp s 1000 (U + 5) (7 * (i : Int)) 3) 1000 (U + 5) (7 * (i : Int) + 1) (-1)) 1000 (U + 5) (7 * (i : Int) + 6) (m : Int)) 1000 (U + 16) i (jf t 43 U 12)) 1000 (U + 5) (7 * (i : Int) + 5) = (wd g n q.1).2.2.1 := by rw [jf_neg (by omega), jf_neg (by omega), jf_neg (by omega), jf_neg (by omega)]; exact R5
  have g16 : jf (jp (jp (jp (jp s 1000 (U + 5) (7 * (i : Int)) 3) 1000 (U + 5) (7 * (i : Int) + 1) (-1)) 1000 (U + 5) (7 * (i : Int) + 6) (m : Int)) 1000 (U + 16) i (jf t 43 U 12)) 1000 (U + 16) i = jf t 43 U 12 := jf_pos ⟨rfl, rfl, rfl⟩
  generalize jp (jp (jp (jp s 1000 (U + 5) (7 * (i : Int)) 3) 1000 (U + 5) (7 * (i : Int) + 1) (-1)) 1000 (U + 5) (7 * (i : Int) + 6) (m : Int)) 1000 (U + 16) i (jf t 43 U 12) = s2 at *
  rw [eu_X39_takeOperand_260]; unfold du_X39_takeOperand_260
  have d12 : jf s2 43 U 12 = jf t 43 U 12 := (F2 _ _ _ (by omega) (by omega)).trans h12
  have d11 : jf s2 43 U 11 = m := (F2 _ _ _ (by omega) (by omega)).trans t11
  generalize hD : jf t 43 U 12 = D0 at *
  obtain ⟨w, e1, ⟨J1, F⟩, J3⟩ := jstepS (A := jc3 b_X39_takeOperand_260) (t := s2) (fun k w => (jSm s2 w ∧ ∀ (c a j : Int), ¬ (c = 1000 ∧ a = U + 9 ∧ D0 ≤ j ∧ j < D0 + m) → jf w c a j = jf s2 c a j) ∧ ∀ j : Nat, (j : Int) < k → jf w 1000 (U + 9) (D0 + j) = inV g n (stQ g n (wd g n q.1).2.2.1 j)) (fun k => [U, 7 * (i : Int), k]) 0 m (by omega) ⟨⟨jSm.rfl, fun _ _ _ _ => rfl⟩, fun j hj => by omega⟩ (fun k u k0 k1 J => by
    obtain ⟨⟨J1, F⟩, J3⟩ := J
    have u11 : jf u 43 U 11 = m := (F _ _ _ (by omega)).trans d11
    have u12 : jf u 43 U 12 = D0 := (F _ _ _ (by omega)).trans d12
    have us : jf u 1000 (U + 15) k = inV g n (stQ g n (wd g n q.1).2.2.1 k.toNat) := by
      rw [F _ _ _ (by omega), F2 _ _ _ (by omega) (by omega)]
      have := tsp k.toNat (by omega)
      rwa [show ((k.toNat : Nat) : Int) = k by omega] at this
    refine ⟨jp u 1000 (U + 9) (D0 + k) (inV g n (stQ g n (wd g n q.1).2.2.1 k.toNat)), ?_, ⟨J1.jp, fun c a j z => by rw [jf_neg (fun q => z ⟨q.1, q.2.1, by omega, by omega⟩)]; exact F c a j z⟩, fun j hj => ?_⟩
    · show b_X39_takeOperand_260 u U (7 * (i : Int)) k = _
      unfold b_X39_takeOperand_260
      rw [u11, if_pos k1, jlt_in (by omega) (by omega), Option.bind_some, us, u12, W32_in (z := D0 + k) (by omega) (by omega), jst_in (by omega) (by omega), Option.bind_some, W32_in (z := k + 1) (by omega) (by omega)]
    · by_cases cj : (j : Int) = k
      · rw [jf_pos ⟨rfl, rfl, by omega⟩, show k.toNat = j by omega]
      · rw [jf_neg (by omega)]; exact J3 j (by omega))
  rw [e1, jlpW_r (r := u_X39_takeOperand_294 w U (7 * (i : Int))) (by
    show b_X39_takeOperand_260 w U (7 * (i : Int)) m = _
    unfold b_X39_takeOperand_260
    rw [F _ _ _ (by omega), d11, if_neg (by omega)]), eu_X39_takeOperand_294]; unfold du_X39_takeOperand_294
  simp only [jls]
  rw [F 43 U 12 (by omega), d12, F 43 U 11 (by omega), d11, W32_in (by omega) (by omega)]
  have T3 : tB (jp w 43 U 12 (D0 + m)) U g n (q.1, q.2.1, q.2.2, 0) I := T2.kp ⟨J1.jp, fun c a j z z1 => by rw [jf_neg (by omega)]; exact F c a j (by omega)⟩
  obtain ⟨w4, z4, e4, T4, K4⟩ := T3.next c6
  have T4 : tB w4 U g n ((wd g n q.1).2.2.2, q.2.1, q.2.2, 0) (I ++ []) := by rw [List.append_nil]; exact T4
  have G : ∀ c a k, ¬ (c = 43 ∧ a = U ∧ (k = 11 ∨ k = 12 ∨ 15 ≤ k ∧ k ≤ 18)) → ¬ (c = 1000 ∧ a = U + 15) → ¬ (c = 1000 ∧ a = U + 9 ∧ D0 ≤ k ∧ k < D0 + m) → jf w4 c a k = jf s2 c a k := fun c a k z z1 z2 => by rw [K4.2 c a k (by omega) z1, jf_neg (by omega)]; exact F c a k z2
  have w12 : jf w4 43 U 12 = D0 + m := by rw [K4.2 _ _ _ (by omega) (by omega), jf_pos ⟨rfl, rfl, rfl⟩]
  rw [e4, Option.bind_some, y_421 T4 (by omega) (by omega) (by rw [G _ _ _ (by omega) (by omega) (by omega)]; exact g3)]
  refine ⟨_, 0, rfl, T4.rec, ⟨⟨?_, ?_, ?_, ?_, ?_, ?_⟩, ?_, fun z => ⟨?_, ?_, fun j hj => ?_⟩⟩, ?_, ?_, K0.trans ⟨⟨?_, ?_⟩, fun c a k z z1 z2 => ?_⟩⟩
  · rw [jf_neg (by omega), G _ _ _ (by omega) (by omega) (by omega)]; exact g0
  · rw [jf_neg (by omega), G _ _ _ (by omega) (by omega) (by omega)]; exact g1
  · rw [jf_neg (by omega), G _ _ _ (by omega) (by omega) (by omega)]; exact g2
  · rw [jf_neg (by omega), G _ _ _ (by omega) (by omega) (by omega)]; exact g3
  · rw [jf_neg (by omega), G _ _ _ (by omega) (by omega) (by omega)]; exact g5
  · rw [jf_neg (by omega), G _ _ _ (by omega) (by omega) (by omega)]
    show _ = ((stB g n (wd g n q.1).2.2.1).length : Int)
    rw [lenB]; exact g6
  · exact jf_pos ⟨rfl, rfl, rfl⟩
  · rw [jf_neg (by omega), G _ _ _ (by omega) (by omega) (by omega), g16]; exact hL.1
  · show _ + ((stB g n (wd g n q.1).2.2.1).length : Int) ≤ _
    rw [lenB, jf_neg (by omega), G _ _ _ (by omega) (by omega) (by omega), g16, jf_neg (by omega), w12]; omega
  · have hj' : j < m := by rw [← lenB]; exact hj
    show _ = (stB g n (wd g n q.1).2.2.1).getD j 0
    rw [atB j hj', jf_neg (by omega), jf_neg (by omega), G 1000 (U + 16) i (by omega) (by omega) (by omega), g16, K4.2 _ _ _ (by omega) (by omega), jf_neg (by omega)]
    exact J3 j (by omega)
  · rw [jf_neg (by omega), G _ _ _ (by omega) (by omega) (by omega), F2 _ _ _ (by omega) (by omega)]; exact h31
  · rw [jf_neg (by omega), w12]
    show 0 ≤ D0 + m ∧ D0 + m ≤ (wd g n q.1).2.2.2
    omega
  · exact (jSm.trans (jSm.trans S2 (J1.jp)) K4.1).jp
  · rw [jf_neg (by omega), w12, h12]; omega
  · rw [jf_neg (by omega), G c a k (by omega) (by omega) (by omega), F2 c a k (by omega) (by omega)]
theorem y_take {i : Nat} {h : Int} (T : tB t U g n (q.1, q.2.1, q.2.2, h) I) (hc : jf t 1000 (U + 3) 1 = i) (hi : i ≤ 800) (hL : 0 ≤ jf t 43 U 12 ∧ jf t 43 U 12 ≤ q.1) : opOut (m_X39_takeOperand t U) t U g n I i (pvOp g n q I.length i) := by
  have hb := T.1.2.2.1
  have hn := T.1.2.2.2
  have hp : 0 ≤ q.1 ∧ q.1 ≤ n := T.2.2.1
  have hw := wd_in hb hp.1 hp.2
  obtain ⟨it1, it2⟩ := T.itl
  rw [y_first T, eu_X39_takeOperand_82]; unfold du_X39_takeOperand_82 pvOp
  have fl : ∀ f {e : fE}, e = ((if (wd g n q.1).1 = 6 then (wd g n q.1).2.1 else f), (wd g n q.1).2.2.1) → opOut ((m_X39_fail t U f).bind fun q => some (q.1, Wz q.2)) t U g n I i (.inl e) := fun f e he => by
    obtain ⟨w, h1, h2⟩ := y_flz (D := winD (7 * 0)) (f := f) T he
    exact .inl ⟨w, h1, (yW.yo (i := 0) h2.1).ya (by omega), h2.2⟩
  by_cases cf : isFst (wd g n q.1)
  rotate_left
  · rw [cif_neg (show ¬ isFst (wd g n (q.1, q.2.1, q.2.2, h).1) from cf), if_pos rfl]
    by_cases c6 : (wd g n q.1).1 = 6
    · rw [if_pos c6]; exact fl 5 (by rw [if_pos c6])
    · rw [if_neg c6, cif_pos cf]; exact fl 5 (by rw [if_neg c6])
  have c6 : ¬ (wd g n q.1).1 = 6 := by unfold isFst at cf; omega
  rw [cif_pos (show isFst (wd g n (q.1, q.2.1, q.2.2, h).1) from cf), if_neg (show ¬ (1 : Int) = 0 by decide), if_neg c6, cif_neg (fun z => z cf), jlt_in (by omega) (by omega), Option.bind_some, hc]
  by_cases c8 : (i : Int) = 800
  · rw [if_pos c8, if_pos c8]; exact fl 8 (by rw [if_neg c6])
  rw [if_neg c8, if_neg c8]
  simp only [jls, jlet]
  rw [jlt_in (by omega) (by omega), Option.bind_some, jf_neg (by omega), hc, W32_in (z := 7 * (i : Int)) (by omega) (by omega), Option.bind_some, W32_in (z := (i : Int) + 1) (by omega) (by omega), jst_in (by omega) (by omega), Option.bind_some, jst_in (by omega) (by omega), Option.bind_some, W32_in (z := 7 * (i : Int) + 1) (by omega) (by omega), jst_in (by omega) (by omega), Option.bind_some, W32_in (z := 7 * (i : Int) + 2) (by omega) (by omega), jst_in (by omega) (by omega), Option.bind_some, jlt_in (by omega) (by omega), Option.bind_some, W32_in (z := 7 * (i : Int) + 3) (by omega) (by omega), jst_in (by omega) (by omega), Option.bind_some, W32_in (z := 7 * (i : Int) + 5) (by omega) (by omega), jst_in (by omega) (by omega), Option.bind_some, W32_in (z := 7 * (i : Int) + 6) (by omega) (by omega), jst_in (by omega) (by omega), Option.bind_some]
  have f2 : jf (jp (jp (jp (jp (jp t 43 U 25 0) 1000 (U + 3) 1 ((i : Int) + 1)) 1000 (U + 5) (7 * (i : Int)) 0) 1000 (U + 5) (7 * (i : Int) + 1) (-1)) 1000 (U + 5) (7 * (i : Int) + 2) 0) 1000 (U + 3) 2 = I.length := by
    rw [jf_neg (by omega), jf_neg (by omega), jf_neg (by omega), jf_neg (by omega), jf_neg (by omega)]; exact it1
  rw [f2]
  have f17 : jf (jp (jp (jp (jp (jp (jp t 43 U 25 0) 1000 (U + 3) 1 ((i : Int) + 1)) 1000 (U + 5) (7 * (i : Int)) 0) 1000 (U + 5) (7 * (i : Int) + 1) (-1)) 1000 (U + 5) (7 * (i : Int) + 2) 0) 1000 (U + 5) (7 * (i : Int) + 3) I.length) 43 U 17 = (wd g n q.1).2.2.1 := by
    rw [jf_neg (by omega), jf_neg (by omega), jf_neg (by omega), jf_neg (by omega), jf_neg (by omega), jf_neg (by omega)]; exact T.2.1.2.1
  rw [f17]
  have T2 : tB (jp (jp (jp (jp (jp (jp (jp (jp t 43 U 25 0) 1000 (U + 3) 1 ((i : Int) + 1)) 1000 (U + 5) (7 * (i : Int)) 0) 1000 (U + 5) (7 * (i : Int) + 1) (-1)) 1000 (U + 5) (7 * (i : Int) + 2) 0) 1000 (U + 5) (7 * (i : Int) + 3) I.length) 1000 (U + 5) (7 * (i : Int) + 5) (wd g n q.1).2.2.1) 1000 (U + 5) (7 * (i : Int) + 6) 0) U g n (q.1, q.2.1, q.2.2, 0) I :=
    ((((((T.z25.kp ⟨jSm.rfl.jp, fun c a j _ z => jf_neg (by omega)⟩).rec).rec).rec).rec).rec).rec
  have K2 : yO t (jp (jp (jp (jp (jp (jp (jp (jp t 43 U 25 0) 1000 (U + 3) 1 ((i : Int) + 1)) 1000 (U + 5) (7 * (i : Int)) 0) 1000 (U + 5) (7 * (i : Int) + 1) (-1)) 1000 (U + 5) (7 * (i : Int) + 2) 0) 1000 (U + 5) (7 * (i : Int) + 3) I.length) 1000 (U + 5) (7 * (i : Int) + 5) (wd g n q.1).2.2.1) 1000 (U + 5) (7 * (i : Int) + 6) 0) U i :=
    ⟨⟨((((((((jSm.rfl.jp).jp).jp).jp).jp).jp).jp).jp), by rw [jf_neg (by omega), jf_neg (by omega), jf_neg (by omega), jf_neg (by omega), jf_neg (by omega), jf_neg (by omega), jf_neg (by omega), jf_neg (by omega)]; omega⟩, fun c a k z z1 z2 => by
      rw [jf_neg (by omega), jf_neg (by omega), jf_neg (by omega), jf_neg (by omega), jf_neg (by omega), jf_neg (by omega), jf_neg (by omega), jf_neg (by omega)]⟩
  have R2 : rcT (jp (jp (jp (jp (jp (jp (jp (jp t 43 U 25 0) 1000 (U + 3) 1 ((i : Int) + 1)) 1000 (U + 5) (7 * (i : Int)) 0) 1000 (U + 5) (7 * (i : Int) + 1) (-1)) 1000 (U + 5) (7 * (i : Int) + 2) 0) 1000 (U + 5) (7 * (i : Int) + 3) I.length) 1000 (U + 5) (7 * (i : Int) + 5) (wd g n q.1).2.2.1) 1000 (U + 5) (7 * (i : Int) + 6) 0) U (7 * (i : Int)) 0 (-1) 0 I.length (wd g n q.1).2.2.1 0 := ⟨by (repeat (first | rw [jf_neg (by omega)] | rw [jf_pos (by omega)] | rw [ou_neg (by omega)] | rw [ou_pos (by omega)])), by (repeat (first | rw [jf_neg (by omega)] | rw [jf_pos (by omega)] | rw [ou_neg (by omega)] | rw [ou_pos (by omega)])), by (repeat (first | rw [jf_neg (by omega)] | rw [jf_pos (by omega)] | rw [ou_neg (by omega)] | rw [ou_pos (by omega)])), by (repeat (first | rw [jf_neg (by omega)] | rw [jf_pos (by omega)] | rw [ou_neg (by omega)] | rw [ou_pos (by omega)])), by (repeat (first | rw [jf_neg (by omega)] | rw [jf_pos (by omega)] | rw [ou_neg (by omega)] | rw [ou_pos (by omega)])), by (repeat (first | rw [jf_neg (by omega)] | rw [jf_pos (by omega)] | rw [ou_neg (by omega)] | rw [ou_pos (by omega)]))⟩
  have h31 : jf (jp (jp (jp (jp (jp (jp (jp (jp t 43 U 25 0) 1000 (U + 3) 1 ((i : Int) + 1)) 1000 (U + 5) (7 * (i : Int)) 0) 1000 (U + 5) (7 * (i : Int) + 1) (-1)) 1000 (U + 5) (7 * (i : Int) + 2) 0) 1000 (U + 5) (7 * (i : Int) + 3) I.length) 1000 (U + 5) (7 * (i : Int) + 5) (wd g n q.1).2.2.1) 1000 (U + 5) (7 * (i : Int) + 6) 0) 1000 (U + 3) 1 = i + 1 := by (repeat (first | rw [jf_neg (by omega)] | rw [jf_pos (by omega)] | rw [ou_neg (by omega)] | rw [ou_pos (by omega)]))
  have h12 : jf (jp (jp (jp (jp (jp (jp (jp (jp t 43 U 25 0) 1000 (U + 3) 1 ((i : Int) + 1)) 1000 (U + 5) (7 * (i : Int)) 0) 1000 (U + 5) (7 * (i : Int) + 1) (-1)) 1000 (U + 5) (7 * (i : Int) + 2) 0) 1000 (U + 5) (7 * (i : Int) + 3) I.length) 1000 (U + 5) (7 * (i : Int) + 5) (wd g n q.1).2.2.1) 1000 (U + 5) (7 * (i : Int) + 6) 0) 43 U 12 = jf t 43 U 12 := by (repeat (first | rw [jf_neg (by omega)] | rw [jf_pos (by omega)] | rw [ou_neg (by omega)] | rw [ou_pos (by omega)]))
  have h2000 : q.2.2 ≤ 2000 := T.2.2.2.2.2.1.2.2.2.2
  generalize jp (jp (jp (jp (jp (jp (jp (jp t 43 U 25 0) 1000 (U + 3) 1 ((i : Int) + 1)) 1000 (U + 5) (7 * (i : Int)) 0) 1000 (U + 5) (7 * (i : Int) + 1) (-1)) 1000 (U + 5) (7 * (i : Int) + 2) 0) 1000 (U + 5) (7 * (i : Int) + 3) I.length) 1000 (U + 5) (7 * (i : Int) + 5) (wd g n q.1).2.2.1) 1000 (U + 5) (7 * (i : Int) + 6) 0 = s15 at *
  rw [T2.reg, Option.bind_some, show jf s15 43 U 15 = (wd g n q.1).1 from T2.2.1.1]
  by_cases c4 : (wd g n q.1).1 = 4
  rotate_left
  · rw [if_neg c4, if_neg c4]
    show opOut (if pvReg g (wd g n q.1) = -1 then _ else _) t U g n I i _
    by_cases cr : pvReg g (wd g n q.1) = -1
    · rw [if_pos cr, if_neg (show ¬ ¬ pvReg g (wd g n q.1) = -1 from fun z => z cr)]
      exact vlOut.op (by omega) (y_val T2 c6 (by omega) (by omega) R2) K2 h31 h12 hL hb hp.1 hp.2 h2000
    · rw [if_neg cr, if_pos cr, jst_in (by omega) (by omega), Option.bind_some, jst_in (by omega) (by omega), Option.bind_some]
      have T3 : tB (jp (jp s15 1000 (U + 5) (7 * (i : Int)) 1) 1000 (U + 5) (7 * (i : Int) + 1) (pvReg g (wd g n q.1))) U g n (q.1, q.2.1, q.2.2, 0) I := T2.rec.rec
      obtain ⟨w4, z4, e4, T4, K4⟩ := T3.next c6
      have T4 : tB w4 U g n ((wd g n q.1).2.2.2, q.2.1, q.2.2, 0) (I ++ []) := by rw [List.append_nil]; exact T4
      obtain ⟨R0, R1, R3, R4, R5, R6⟩ := R2
      have G : ∀ k, ¬ k = 7 * (i : Int) → ¬ k = 7 * (i : Int) + 1 → jf w4 1000 (U + 5) k = jf s15 1000 (U + 5) k := fun k z z1 => by rw [K4.2 _ _ _ (by omega) (by omega), jf_neg (by omega), jf_neg (by omega)]
      have G0 : jf w4 1000 (U + 5) (7 * (i : Int)) = 1 := by rw [K4.2 _ _ _ (by omega) (by omega), jf_neg (by omega), jf_pos ⟨rfl, rfl, rfl⟩]
      have G1 : jf w4 1000 (U + 5) (7 * (i : Int) + 1) = pvReg g (wd g n q.1) := by rw [K4.2 _ _ _ (by omega) (by omega), jf_pos ⟨rfl, rfl, rfl⟩]
      have G3 : jf w4 1000 (U + 5) (7 * (i : Int) + 3) = I.length := by rw [G _ (by omega) (by omega)]; exact R4
      have Ky : yO s15 w4 U i := ((yW.rec (yW.rec yE.rfl.yw ⟨by omega, by omega⟩) ⟨by omega, by omega⟩).trans ((yE.rfl.rd K4).yw (D := winD (7 * (i : Int))))).yo
      have g12 : jf w4 43 U 12 = jf s15 43 U 12 := by rw [K4.2 _ _ _ (by omega) (by omega), jf_neg (by omega), jf_neg (by omega)]
      have g31 : jf w4 1000 (U + 3) 1 = jf s15 1000 (U + 3) 1 := by rw [K4.2 _ _ _ (by omega) (by omega), jf_neg (by omega), jf_neg (by omega)]
      rw [e4, Option.bind_some, y_421 T4 (by omega) (by omega) G3]
      have h7 := hw.2.2.2.1 c6
      refine ⟨_, 0, rfl, T4.rec, ⟨⟨?_, ?_, ?_, ?_, ?_, ?_⟩, ?_, fun z => absurd rfl z⟩, ?_, ?_, K2.trans (Ky.trans (yW.rec yE.rfl.yw ⟨by omega, by omega⟩).yo)⟩
      · rw [jf_neg (by omega)]; exact G0
      · rw [jf_neg (by omega)]; exact G1
      · rw [jf_neg (by omega), G _ (by omega) (by omega)]; exact R3
      · rw [jf_neg (by omega)]; exact G3
      · rw [jf_neg (by omega), G _ (by omega) (by omega)]; exact R5
      · rw [jf_neg (by omega), G _ (by omega) (by omega)]; exact R6
      · exact jf_pos ⟨rfl, rfl, rfl⟩
      · rw [jf_neg (by omega), g31]; exact h31
      · rw [jf_neg (by omega), g12, h12]; exact ⟨hL.1, by show jf t 43 U 12 ≤ (wd g n q.1).2.2.2; omega⟩
  rw [if_pos c4, if_pos c4]
  exact y_strop T2 c4 hi (by omega) R2 h31 h12 hL K2
end jToper4
