/-! the twin's whole expression -/
section jTexpr8
variable {s t u w v' : jS} {U n p p' q r k c f v y e d o z a a' b' pl b : Int} {g : Int → Int} {l m : List Int} {NL : List (List Int)} {W : wR4} {st st' : pS} {I I' E L L1 L2 : pI} {S S' P : List Int} {G : gP}
theorem tR.popB (T : tR t U g n st I (1 :: S)) : jf t 43 U 23 = S.length + 1 ∧ jf (jp t 43 U 23 S.length) 43 U 27 = sO S + 1 ∧ jf (jp (jp t 43 U 23 S.length) 43 U 27 (sO S)) 43 U 26 = sD S + 2 ∧ (0 ≤ sO S ∧ sO S ≤ 30 ∧ sO S ≤ sD S ∧ sD S ≤ S.length ∧ (S.length : Int) ≤ 2100) ∧ tR (jp (jp (jp t 43 U 23 S.length) 43 U 27 (sO S)) 43 U 26 (sD S + 1)) U g n st I S ∧ yE t (jp (jp (jp t 43 U 23 S.length) 43 U 27 (sO S)) 43 U 26 (sD S + 1)) U := by
  have h2 := T.2.2.2.2.2.1.2.2.2.2
  have T7 := T.2.2.2.2.2.2.1
  obtain ⟨s1, s2, s3, s4, s5⟩ := T.2.2.2.2.2.2.2.1
  have T9 := T.2.2.2.2.2.2.2.2
  have hn := sN_lo S
  have ho' := sO_lo S
  have e1 : sO (1 :: S) = 1 + sO S := rfl
  have e3 : sN (1 :: S) = sN S := by show (0 : Int) + sN S = sN S; omega
  have e2 : sD (1 :: S) = 1 + sD S := rfl
  have el : (((1 : Int) :: S).length : Int) = S.length + 1 := by simp
  have K : yF t (jp (jp (jp t 43 U 23 S.length) 43 U 27 (sO S)) 43 U 26 (sD S + 1)) U := ((yF.rfl.slt (by omega)).slt (by omega)).slt (by omega)
  refine ⟨by omega, by rw [jf_neg (by omega), s3, e1]; omega, by rw [jf_neg (by omega), jf_neg (by omega), s4, e2]; omega, by omega, K.tr T ⟨by (repeat (first | rw [jf_neg (by omega)] | rw [jf_pos (by omega)] | rw [ou_neg (by omega)] | rw [ou_pos (by omega)])), by (repeat (first | rw [jf_neg (by omega)] | rw [jf_pos (by omega)] | rw [ou_neg (by omega)] | rw [ou_pos (by omega)]))⟩ ⟨by rw [jf_neg (by omega), jf_neg (by omega), jf_neg (by omega)]; exact T7.1, fun i hi => by rw [jf_neg (by omega), jf_neg (by omega), jf_neg (by omega), jf_neg (by omega), jf_neg (by omega), jf_neg (by omega)]; exact T7.2 i hi⟩ ⟨by rw [jf_neg (by omega), jf_neg (by omega), jf_pos ⟨rfl, rfl, rfl⟩], s2.2.kp fun j hj => by rw [jf_neg (by omega), jf_neg (by omega), jf_neg (by omega)], by rw [jf_neg (by omega), jf_pos ⟨rfl, rfl, rfl⟩], by rw [jf_pos ⟨rfl, rfl, rfl⟩]; omega, by omega⟩ (by omega), K.ye⟩
theorem ct_inb (h : SuT U g n G d 1) (T : tR t U g n st I (1 :: S)) (hd : 2 + sD S = d) : exOut U g n t 1 I S (inBrF g n G st d) := by
  have h := h t st I (1 :: S) T (by show 1 + ((1 : Int) + sD S) = d; omega) ⟨by omega, fun z => by omega⟩
  unfold inBrF
  cases hG : G.1 st d 1 with
  | inl z => rw [hG] at h; exact h
  | inr z =>
    rw [hG] at h
    obtain ⟨w, E, P, x1, T1, x3, x4, x5, x6, x7⟩ := h
    have bl := bnO_lo (o := opO (wd g n z.1.1))
    have no : opO (wd g n z.1.1) = -1 := x7.resolve_right (by omega)
    have hS := sD_app (S := 1 :: S) (P := P) fun o ho => (x5 o ho).1
    have ho := sO_lo S
    have op1 : 0 < sO (P ++ 1 :: S) := by rw [hS.2]; show 0 < (1 : Int) + sO S; omega
    show exOut U g n t 1 I S (if (wd g n z.1.1).1 = 6 then .inl ((wd g n z.1.1).2.1, (wd g n z.1.1).2.2.1) else if (wd g n z.1.1).1 = 5 ∧ (wd g n z.1.1).2.1 = 41 then .inr (((wd g n z.1.1).2.2.2, z.1.2), z.2) else .inl (5, (wd g n z.1.1).2.2.1))
    rw [if_neg x6]
    by_cases c41 : (wd g n z.1.1).1 = 5 ∧ (wd g n z.1.1).2.1 = 41
    · rw [if_pos c41]
      obtain ⟨r1, r2⟩ := rd_all (S := 1 :: S) (b := 0) (P := P) (fun o ho => by have := x5 o ho; have := bnO_lo (o := o); omega) (fun o S' hS' hz => by
        have : (1 : Int) = o := (List.cons.inj hS').1
        omega)
      obtain ⟨w1, e1, T2, K2⟩ := y_red (b := 0) T1
      rw [r1, r2, List.append_assoc, ← x4] at T2
      obtain ⟨p1, p2, p3, p4, T3, K3⟩ := T2.popB
      obtain ⟨w4, e4, T4, K4⟩ := y_ahead S _ _ T3
      obtain ⟨w5, z5, e5, T5, K5⟩ := T4.next x6
      have ea : m_X39_ahead (jp (jp (jp w1 43 U 23 S.length) 43 U 27 (sO S)) 43 U 26 (sD S + 1)) U = some (w4, 0) := by
        rw [em_X39_ahead]; unfold dm_X39_ahead
        rw [eu_X39_ahead_0]; unfold du_X39_ahead_0
        exact e4
      refine ⟨w5, x1.trans ?_, T5, (((x3.trans K2).trans K3).trans K4).trans K5⟩
      unfold exL
      refine jlpW_l ?_
      show b_X39_expression_19 w U 0 1 = _
      unfold b_X39_expression_19
      rw [if_neg (by decide), if_pos rfl, y_opr T1, if_pos no, Option.bind_some, if_neg (by decide), y_sgn T1 (by omega), Option.bind_some, if_pos c41, if_neg (by decide), T1.2.2.2.2.2.2.2.1.2.2.1, if_pos op1, e1, Option.bind_some]
      simp only [jls]
      rw [p1, W32_in (by omega) (by omega), show (S.length : Int) + 1 - 1 = S.length by omega, p2, W32_in (by omega) (by omega), show sO S + 1 - 1 = sO S by omega, p3, W32_in (by omega) (by omega), show sD S + 2 - 1 = sD S + 1 by omega, ea, Option.bind_some, e5, Option.bind_some, eu_X39_expression_193]; unfold du_X39_expression_193; rfl
    · rw [if_neg c41]
      obtain ⟨w1, e1, hf⟩ := ct_stop T1 no (.inr ⟨c41, op1⟩)
      rw [if_neg x6] at hf
      exact ⟨w1, x1.trans e1, hf.after x3⟩
/-- the whole recursion -/
theorem ct_all (hb : byG g n) : ∀ (k : Nat) (d : Int), 1 ≤ d → d ≤ 21 →
    (∀ l, 1 ≤ l → l ≤ 7 → 2 + 15 * (21 - d) + 2 * (7 - l) ≤ k → SuT U g n (gp g n k) d l) ∧
    (∀ l, 1 ≤ l → l ≤ 7 → 1 + 15 * (21 - d) + 2 * (7 - l) ≤ k → ∀ (t : jS) (st : pS) (I L : pI) (S : List Int), tR t U g n st (I ++ L) S → 1 + sD S = d → topOK l S → exOut2 U g n t 0 l I S ((gp g n k).2.1 L st d l)) ∧
    (1 + 15 * (21 - d) ≤ k → SgT U g n (gp g n k) d) ∧
    (15 + 15 * (21 - d) ≤ k → InT U g n (gp g n k) d)
  | 0, d, d1, d2 => ⟨fun l _ _ h => absurd h (by omega), fun l _ _ h => absurd h (by omega), fun h => absurd h (by omega), fun h => absurd h (by omega)⟩
  | k + 1, d, d1, d2 => by
    have ih := ct_all hb k d d1 d2
    have pg : ∀ (st : pS) d l z, 0 ≤ st.1 → st.1 ≤ n → (gp g n k).1 st d l = .inr z → st.1 ≤ z.1.1 := fun st d l z p0 p1 h => by
      have := (gp_ok hb k st p0 p1).1 d l
      rw [h] at this; exact this.1
    refine ⟨fun l l1 l7 h t st I S T hd hS => ?_, fun l l1 l7 h t st I L S T hd hS => ?_, fun h t st I S T hd => ?_, fun h t st I S T hd => ?_⟩
    · exact ct_sum l1 (ih.2.2.1 (by omega)) (fun t st L T => ih.2.1 l l1 l7 (by omega) t st I L S T hd hS) T hd hS
    · exact ct_more pg l1 (fun j h1 h2 => ih.1 j (by omega) h2 (by omega)) _ t st L L [] (Nat.le_refl _) T hd (by simp) (fun o ho => absurd ho List.not_mem_nil) hS (fun _ o ho => absurd ho List.not_mem_nil)
    · exact ct_one (fun hd => (ct_all hb k (d + 1) (by omega) (by omega)).2.2.1 (by omega)) (fun hd => (ct_all hb k (d + 1) (by omega) (by omega)).2.2.2 (by omega)) T hd
    · exact ct_inb (ih.1 1 (by omega) (by omega) (by omega)) T hd
/-- the twin's reader between expressions -/
def tB (t : jS) (U : Int) (g : Int → Int) (n : Int) (st : pS) (I : pI) : Prop := tdI t U g n ∧ tkS t U g n (wd g n st.1) ∧ (0 ≤ st.1 ∧ st.1 ≤ n) ∧ jf t 43 U 20 = 0 ∧ nmR t U st.2.1 ∧ (jf t 43 U 24 = st.2.2.1 ∧ jf t 43 U 25 = st.2.2.2 ∧ 0 ≤ st.2.2.1 ∧ 0 ≤ st.2.2.1 ∧ st.2.2.1 ≤ 2000) ∧ itR t U I ∧ I.length ≤ st.2.2.1
theorem tR.tb (T : tR t U g n st I S) : tB t U g n st I := by
  obtain ⟨T1, T2, T3, T4, T5, T6, T7, T8, T9⟩ := T
  have := sN_lo S
  exact ⟨T1, T2, T3, T4, T5, ⟨T6.1, T6.2.1, by omega, by omega, T6.2.2.2.2⟩, T7, by omega⟩
theorem tB.tr (T : tB t U g n st I) (hh : 0 ≤ st.2.2.2 ∧ st.2.2.2 ≤ st.2.2.1) : tR (jp (jp (jp t 43 U 23 0) 43 U 27 0) 43 U 26 1) U g n st I [] ∧ yE t (jp (jp (jp t 43 U 23 0) 43 U 27 0) 43 U 26 1) U := by
  have K : yF t (jp (jp (jp t 43 U 23 0) 43 U 27 0) 43 U 26 1) U := ((yF.rfl.slt (by omega)).slt (by omega)).slt (by omega)
  obtain ⟨T1, T2, T3, T4, T5, T6, T7, T9⟩ := T
  have F : ∀ c a j, ¬ (c = 43 ∧ a = U ∧ (j = 23 ∨ j = 26 ∨ j = 27)) → jf (jp (jp (jp t 43 U 23 0) 43 U 27 0) 43 U 26 1) c a j = jf t c a j := fun c a j z => by rw [jf_neg (by omega), jf_neg (by omega), jf_neg (by omega)]
  refine ⟨⟨T1.ke K.ye, K.tk T2, T3, by rw [F _ _ _ (by omega)]; exact T4, K.nm T5, ⟨by rw [F _ _ _ (by omega)]; exact T6.1, by rw [F _ _ _ (by omega)]; exact T6.2.1, hh.1, hh.2, T6.2.2.2.2⟩, ⟨by rw [F _ _ _ (by omega)]; exact T7.1, fun i hi => by rw [F _ _ _ (by omega), F _ _ _ (by omega)]; exact T7.2 i hi⟩, ⟨by rw [jf_neg (by omega), jf_neg (by omega), jf_pos ⟨rfl, rfl, rfl⟩]; rfl, trivial, by rw [jf_neg (by omega), jf_pos ⟨rfl, rfl, rfl⟩]; rfl, by rw [jf_pos ⟨rfl, rfl, rfl⟩]; rfl, by show (0 : Int) ≤ 30; decide⟩, by show (I.length : Int) + 0 ≤ st.2.2.1; omega⟩, K.ye⟩
/-- an expression, as a whole -/
theorem y_expr {k : Nat} (hk : 314 ≤ k) (T : tB t U g n st I) (hh : 0 ≤ st.2.2.2 ∧ st.2.2.2 ≤ st.2.2.1) : match (gp g n k).1 st 1 1 with
    | .inl e => ∃ w, m_X39_expression t U = some (w, 0) ∧ tFl t w U e.1 e.2
    | .inr z => ∃ w, m_X39_expression t U = some (w, 1) ∧ tB w U g n z.1 (I ++ z.2) ∧ yE t w U ∧ ¬ (wd g n z.1.1).1 = 6 ∧ opO (wd g n z.1.1) = -1 := by
  obtain ⟨T0, K0⟩ := T.tr hh
  have hb := T.1.2.2.1
  have h := (ct_all (U := U) hb k 1 (by omega) (by omega)).1 1 (by omega) (by omega) (by omega) _ st I [] T0 rfl trivial
  rw [em_X39_expression]; unfold dm_X39_expression
  simp only [jls]
  rw [eu_X39_expression_19]; unfold du_X39_expression_19
  generalize jp (jp (jp t 43 U 23 0) 43 U 27 0) 43 U 26 1 = t1 at *
  cases hG : (gp g n k).1 st 1 1 with
  | inl z =>
    rw [hG] at h
    obtain ⟨w, x1, x2⟩ := h
    exact ⟨w, x1, x2.after K0⟩
  | inr z =>
    rw [hG] at h
    obtain ⟨w, E, P, x1, T1, x3, x4, x5, x6, x7⟩ := h
    have bl := bnO_lo (o := opO (wd g n z.1.1))
    have no : opO (wd g n z.1.1) = -1 := x7.resolve_right (by omega)
    have hS := sD_app (S := []) (P := P) fun o ho => (x5 o ho).1
    obtain ⟨r1, r2⟩ := rd_all (S := []) (b := 0) (P := P) (fun o ho => by have := x5 o ho; have := bnO_lo (o := o); omega) (fun o S' hS' hz => by cases hS')
    obtain ⟨w1, e1, T2, K2⟩ := y_red (b := 0) T1
    rw [r1, r2, List.append_assoc, ← x4] at T2
    refine ⟨w1, x1.trans ?_, T2.tb, (K0.trans x3).trans K2, x6, no⟩
    have e169 : u_X39_expression_169 w U 0 = some (.inl (w, [U, 0, 0])) := by
      rw [eu_X39_expression_169]; unfold du_X39_expression_169
      rw [T1.2.2.2.2.2.2.2.1.2.2.1, hS.2, if_neg (by show ¬ (0 : Int) < 0; omega), if_neg (fun q => x6 (T1.2.1.1.symm.trans q)), eu_X39_expression_193]; unfold du_X39_expression_193; rfl
    have s1 : b_X39_expression_19 w U 0 1 = some (.inl (w, [U, 0, 0])) := by
      unfold b_X39_expression_19
      rw [if_neg (by decide), if_pos rfl, y_opr T1, if_pos no, Option.bind_some, if_neg (by decide), y_sgn T1 (by omega), Option.bind_some]
      by_cases c41 : (wd g n z.1.1).1 = 5 ∧ (wd g n z.1.1).2.1 = 41
      · rw [if_pos c41, if_neg (by decide), T1.2.2.2.2.2.2.2.1.2.2.1, hS.2, if_neg (by show ¬ (0 : Int) < 0; omega), e169]
      · rw [if_neg c41, if_pos rfl, e169]
    unfold exL
    refine (jlpW_l s1).trans (jlpW_r (r := some (w1, 1)) ?_)
    show b_X39_expression_19 w U 0 0 = _
    unfold b_X39_expression_19
    rw [if_pos rfl, eu_X39_expression_196]; unfold du_X39_expression_196
    rw [e1, Option.bind_some, Wz_1]
end jTexpr8
