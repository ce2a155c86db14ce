/-! the twin's operands of a statement -/
section jToper5
variable {s t u w v' : jS} {U n p p' q' r k c f v y e d o z a a' b' pl v6 mk i0 ln : Int} {g : Int → Int} {l m : List Int} {NL : List (List Int)} {W : wR4} {st st' : pS} {I I' E L L1 L2 : pI} {D D' : Int → Prop} {q : qS} {OL : List pvO} {SL SL0 : List pvS} {x : pvS}
def oZ : pvO := (0, 0, 0, 0, 0, 0, [])
def sZ : pvS := (0, 0, 0, 0, 0, 0)
def stT (t : jS) (U i : Int) (x : pvS) : Prop := jf t 1000 (U + 4) (6 * i) = x.1 ∧ jf t 1000 (U + 4) (6 * i + 1) = x.2.1 ∧ jf t 1000 (U + 4) (6 * i + 2) = x.2.2.1 ∧ jf t 1000 (U + 4) (6 * i + 3) = x.2.2.2.1 ∧ jf t 1000 (U + 4) (6 * i + 4) = x.2.2.2.2.1 ∧ jf t 1000 (U + 4) (6 * i + 5) = x.2.2.2.2.2
/-- operands and statements so far -/
def bkT (t : jS) (U : Int) (OL : List pvO) (SL : List pvS) (ln : Int) : Prop := (∀ i : Nat, i < OL.length → opT t U i (OL.getD i oZ)) ∧ OL.length ≤ 800 ∧ jf t 1000 (U + 3) 1 = OL.length ∧ (∀ i : Nat, i < SL.length → stT t U i (SL.getD i sZ)) ∧ SL.length ≤ 400 ∧ jf t 1000 (U + 3) 0 = SL.length ∧ jf t 43 U 19 = ln
theorem opT.kpg {i : Int} {z : pvO} (h : opT t U i z) (h12 : jf t 43 U 12 ≤ jf w 43 U 12) (F : ∀ a k, (a = U + 5 ∧ 7 * i ≤ k ∧ k < 7 * i + 7 ∨ a = U + 16 ∧ k = i ∨ a = U + 9 ∧ k < jf t 43 U 12) → jf w 1000 a k = jf t 1000 a k) : opT w U i z := by
  obtain ⟨⟨R0, R1, R2, R3, R5, R6⟩, R4, R7⟩ := h
  refine ⟨⟨?_, ?_, ?_, ?_, ?_, ?_⟩, ?_, fun hx => ?_⟩
  · rw [F _ _ (by omega)]; exact R0
  · rw [F _ _ (by omega)]; exact R1
  · rw [F _ _ (by omega)]; exact R2
  · rw [F _ _ (by omega)]; exact R3
  · rw [F _ _ (by omega)]; exact R5
  · rw [F _ _ (by omega)]; exact R6
  · rw [F _ _ (by omega)]; exact R4
  · obtain ⟨s1, s2, s3⟩ := R7 hx
    rw [F (U + 16) i (by omega)]
    exact ⟨s1, by omega, fun i hi => by rw [F _ _ (by omega)]; exact s3 i hi⟩
theorem stT.kpg {i : Int} (h : stT t U i x) (F : ∀ k, 6 * i ≤ k → k < 6 * i + 6 → jf w 1000 (U + 4) k = jf t 1000 (U + 4) k) : stT w U i x := by
  obtain ⟨a1, a2, a3, a4, a5, a6⟩ := h
  unfold stT
  rw [F _ (by omega) (by omega), F _ (by omega) (by omega), F _ (by omega) (by omega), F _ (by omega) (by omega), F _ (by omega) (by omega), F _ (by omega) (by omega)]
  exact ⟨a1, a2, a3, a4, a5, a6⟩
theorem bkT.rd (h : bkT t U OL SL ln) (k : yRd t w U) : bkT w U OL SL ln := by
  obtain ⟨h1, h2, h3, h4, h5, h6, h7⟩ := h
  have F := k.2
  exact ⟨fun i hi => (h1 i hi).kpg (by rw [F 43 U 12 (by omega) (by omega)]; omega) fun a k z => F _ _ _ (by omega) (by omega), h2, by rw [F _ _ _ (by omega) (by omega)]; exact h3, fun i hi => (h4 i hi).kpg fun k _ _ => F _ _ _ (by omega) (by omega), h5, by rw [F _ _ _ (by omega) (by omega)]; exact h6, by rw [F _ _ _ (by omega) (by omega)]; exact h7⟩
theorem getD_app1 {α : Type} {l m : List α} {i : Nat} {x : α} (h : i < l.length) : (l ++ m).getD i x = l.getD i x := by
  rw [List.getD_eq_getElem?_getD, List.getD_eq_getElem?_getD, List.getElem?_append_left h]
theorem getD_app2 {α : Type} {l : List α} {a x : α} : (l ++ [a]).getD l.length x = a := by simp
/-- an operand more, and the statement's count -/
theorem bkT.op {z : pvO} (h : bkT t U OL (SL0 ++ [x]) ln) (k : yO t w U (OL.length : Int)) (hz : opT w U (OL.length : Int) z) (h1 : jf w 1000 (U + 3) 1 = (OL.length : Int) + 1) (hl : OL.length < 800) (h0 : 0 ≤ jf t 43 U 12) : jf w 1000 (U + 4) (6 * (SL0.length : Int) + 3) = x.2.2.2.1 ∧ bkT (jp w 1000 (U + 4) (6 * (SL0.length : Int) + 3) (x.2.2.2.1 + 1)) U (OL ++ [z]) (SL0 ++ [sMany x (x.2.2.2.1 + 1)]) ln := by
  obtain ⟨b1, b2, b3, b4, b5, b6, b7⟩ := h
  have F := k.2
  have k12 := k.1.2
  have lS : (SL0 ++ [x]).length = SL0.length + 1 := by simp
  have lS' : (SL0 ++ [sMany x (x.2.2.2.1 + 1)]).length = SL0.length + 1 := by simp
  have lO : (OL ++ [z]).length = OL.length + 1 := by simp
  have hs : ∀ i : Nat, i < SL0.length + 1 → stT w U i ((SL0 ++ [x]).getD i sZ) := fun i hi => (b4 i (by omega)).kpg fun k _ _ => F _ _ _ (by omega) (by omega) (by omega)
  have hx0 := hs SL0.length (by omega)
  rw [getD_app2] at hx0
  refine ⟨hx0.2.2.2.1, fun i hi => ?_, by omega, by rw [jf_neg (by omega), h1, lO]; omega, fun i hi => ?_, by omega, by rw [jf_neg (by omega), F _ _ _ (by omega) (by omega) (by omega), b6, lS, lS'], by rw [jf_neg (by omega), F _ _ _ (by omega) (by omega) (by omega)]; exact b7⟩
  · refine opT.kpg (t := w) ?_ (by rw [jf_neg (by omega)]; omega) fun a k z => jf_neg (by omega)
    by_cases ci : i = OL.length
    · subst ci; rw [getD_app2]; exact hz
    · rw [getD_app1 (by omega)]
      exact (b1 i (by omega)).kpg k12 fun a k z => F _ _ _ (by omega) (by omega) (by omega)
  · by_cases ci : i = SL0.length
    · subst ci
      rw [getD_app2]
      obtain ⟨a1, a2, a3, a4, a5, a6⟩ := hx0
      exact ⟨by rw [jf_neg (by omega)]; exact a1, by rw [jf_neg (by omega)]; exact a2, by rw [jf_neg (by omega)]; exact a3, jf_pos ⟨rfl, rfl, rfl⟩, by rw [jf_neg (by omega)]; exact a5, by rw [jf_neg (by omega)]; exact a6⟩
    · have := hs i (by omega)
      rw [getD_app1 (by omega)] at this ⊢
      exact this.kpg fun k _ _ => jf_neg (by omega)
def osOut (x : Option (jS × Int)) (t : jS) (U : Int) (g : Int → Int) (n : Int) (SL0 : List pvS) (ln : Int) (pr : fE ⊕ (qS × pI × List pvO × pvS)) : Prop := match pr with
  | .inl e => ∃ w, x = some (w, 0) ∧ yA t w U ∧ jf w 43 U 20 = e.1 ∧ jf w 43 U 21 = e.2
  | .inr z => ∃ w h, x = some (w, 1) ∧ tB w U g n (z.1.1, z.1.2.1, z.1.2.2, h) z.2.1 ∧ bkT w U z.2.2.1 (SL0 ++ [z.2.2.2]) ln ∧ (0 ≤ jf w 43 U 12 ∧ jf w 43 U 12 ≤ z.1.1) ∧ yA t w U ∧ (wd g n z.1.1).1 = 0
theorem osOut.after {y : Option (jS × Int)} {pr : fE ⊕ (qS × pI × List pvO × pvS)} (h : osOut y u U g n SL0 ln pr) (k : yA t u U) : osOut y t U g n SL0 ln pr := by
  cases pr with
  | inl e => obtain ⟨w, h1, h2, h3⟩ := h; exact ⟨w, h1, k.trans h2, h3⟩
  | inr z => obtain ⟨w, hh, h1, h2, h3, h4, h5, h6⟩ := h; exact ⟨w, hh, h1, h2, h3, h4, k.trans h5, h6⟩
/-- the end of operands -/
theorem y_ops57 (T : tB t U g n st I) : ∃ w, u_X39_operands_57 t U = some (w, if (wd g n st.1).1 = 0 then 1 else 0) ∧ ((wd g n st.1).1 = 0 → w = t) ∧ (¬ (wd g n st.1).1 = 0 → tFl t w U (if (wd g n st.1).1 = 6 then (wd g n st.1).2.1 else 5) (wd g n st.1).2.2.1) := by
  rw [eu_X39_operands_57]; unfold du_X39_operands_57
  rw [T.2.1.1]
  by_cases c0 : (wd g n st.1).1 = 0
  · rw [if_pos c0, if_pos c0, Wz_1]; exact ⟨t, rfl, fun _ => rfl, fun z => absurd c0 z⟩
  · rw [if_neg c0, if_neg c0]
    obtain ⟨w, e, h⟩ := T.fail (f := 5)
    exact ⟨w, by rw [e, Option.bind_some, if_pos rfl, Wz_0], fun z => absurd z c0, fun _ => h⟩
theorem y_ops : ∀ (m : Nat) (t : jS) (q : qS) (h : Int) (I : pI) (OL : List pvO) (x : pvS), (n + 1 - q.1).toNat ≤ m → tB t U g n (q.1, q.2.1, q.2.2, h) I → bkT t U OL (SL0 ++ [x]) ln → (0 ≤ jf t 43 U 12 ∧ jf t 43 U 12 ≤ q.1) → (0 ≤ x.2.2.2.1 ∧ x.2.2.2.1 ≤ OL.length) → osOut (jlpW (jc3 b_X39_operands_11) [U, SL0.length, 1] t) t U g n SL0 ln (pvOps g n m q I OL x)
  | 0, t, q, h, I, OL, x, hm, T, _, _, _ => absurd hm (by have : q.1 ≤ n := T.2.2.1.2; omega)
  | m + 1, t, q, h, I, OL, x, hm, T, B, hL, hx => by
    have hb := T.1.2.2.1
    have hp : 0 ≤ q.1 ∧ q.1 ≤ n := T.2.2.1
    have h2000 : q.2.2 ≤ 2000 := T.2.2.2.2.2.1.2.2.2.2
    have hO := B.2.1
    have lS : (SL0 ++ [x]).length = SL0.length + 1 := by simp
    have hS := B.2.2.2.2.1
    have tk := y_take T B.2.2.1 hO hL
    have ok := fun z hz => pvOp_ok (k := I.length) (o := OL.length) (z := z) hb hp.1 hp.2 h2000 hz
    obtain ⟨C, hC⟩ : ∃ C, C = jc3 b_X39_operands_11 := ⟨_, rfl⟩
    rw [← hC]
    have ev : ∀ x2 (u : jS), C [U, (SL0.length : Int), x2] u = b_X39_operands_11 u U SL0.length x2 := fun x2 u => by rw [hC]; rfl
    have stop : ∀ (u : jS) st I', tB u U g n st I' → jlpW C [U, (SL0.length : Int), 0] u = u_X39_operands_57 u U := fun u st I' _ => by
      refine jlpW_r ?_
      rw [ev]
      unfold b_X39_operands_11
      rw [if_pos rfl]
    have after : ∀ (w1 : jS), m_X39_takeOperand t U = some (w1, 1) → b_X39_operands_11 t U SL0.length 1 = ((jst w1 1000 (U + 4) 4800 (6 * (SL0.length : Int) + 3) (W32 (jf w1 1000 (U + 4) (6 * (SL0.length : Int) + 3) + 1))).bind fun s3 => (m_X39_isSign s3 U 44).bind fun v4 => if v4 = 0 then some (.inl (s3, [U, (SL0.length : Int), v4])) else (m_X39_next s3 U).bind fun q5 => some (.inl (q5.1, [U, (SL0.length : Int), v4]))) := fun w1 e => by
      unfold b_X39_operands_11
      rw [if_neg (show ¬ (1 : Int) = 0 by decide), e, Option.bind_some, if_neg (show ¬ (1 : Int) = 0 by decide), W32_in (z := 6 * (SL0.length : Int)) (by omega) (by omega), W32_in (z := 6 * (SL0.length : Int) + 3) (by omega) (by omega), jlt_in (by omega) (by omega), Option.bind_some]
    unfold pvOps
    cases hP : pvOp g n q I.length OL.length with
    | inl e =>
      rw [hP] at tk
      rcases tk with ⟨w1, e1, h1, h3⟩ | ⟨w1, st1, I1, e1, T1, d6, d7, K1⟩
      · refine ⟨w1, ?_, h1, h3⟩
        refine jlpW_r ?_
        rw [ev]
        unfold b_X39_operands_11
        rw [if_neg (show ¬ (1 : Int) = 0 by decide), e1, Option.bind_some, if_pos rfl, Wz_0]
      · have T2 : tB (jp w1 1000 (U + 4) (6 * (SL0.length : Int) + 3) (W32 (jf w1 1000 (U + 4) (6 * (SL0.length : Int) + 3) + 1))) U g n st1 I1 := T1.kp ⟨jSm.rfl.jp, fun c a j _ z => jf_neg (by omega)⟩
        obtain ⟨w3, e3, -, f3⟩ := y_ops57 T2
        have f3 := f3 (by omega)
        rw [if_pos d6] at f3
        rw [if_neg (show ¬ (wd g n st1.1).1 = 0 by omega)] at e3
        refine ⟨w3, ?_, (K1.wr4 (by omega)).trans f3.1.ya, by rw [d7]; exact f3.2⟩
        rw [jlpW_l (s' := jp w1 1000 (U + 4) (6 * (SL0.length : Int) + 3) (W32 (jf w1 1000 (U + 4) (6 * (SL0.length : Int) + 3) + 1))) (vs' := [U, (SL0.length : Int), 0]) (by rw [ev, after w1 e1, jst_in (by omega) (by omega), Option.bind_some, T2.sgn (by omega), Option.bind_some, if_neg (show ¬ ((wd g n st1.1).1 = 5 ∧ (wd g n st1.1).2.1 = 44) by omega), if_pos rfl]), stop _ _ _ T2]
        exact e3
    | inr z =>
      have ok := ok z hP
      rw [hP] at tk
      obtain ⟨w1, h1, e1, T1, O1, c1, L1, K1⟩ := tk
      have hl8 : OL.length < 800 := by have := ok.2.2.2.2.2; omega
      obtain ⟨m1, B1⟩ := B.op K1 O1 c1 hl8 hL.1
      have e44 := after w1 e1
      rw [m1, W32_in (z := x.2.2.2.1 + 1) (by omega) (by omega), jst_in (by omega) (by omega), Option.bind_some] at e44
      have T2 : tB (jp w1 1000 (U + 4) (6 * (SL0.length : Int) + 3) (x.2.2.2.1 + 1)) U g n (z.1.1, z.1.2.1, z.1.2.2, h1) (I ++ z.2.1) := T1.kp ⟨jSm.rfl.jp, fun c a j _ z => jf_neg (by omega)⟩
      have K2 : yA t (jp w1 1000 (U + 4) (6 * (SL0.length : Int) + 3) (x.2.2.2.1 + 1)) U := ((show yA t w1 U from ⟨K1.1.1, fun c a k z z1 z2 => K1.2 c a k z (by omega) (by omega)⟩)).wr4 (by omega)
      have L2 : 0 ≤ jf (jp w1 1000 (U + 4) (6 * (SL0.length : Int) + 3) (x.2.2.2.1 + 1)) 43 U 12 ∧ jf (jp w1 1000 (U + 4) (6 * (SL0.length : Int) + 3) (x.2.2.2.1 + 1)) 43 U 12 ≤ z.1.1 := by rw [jf_neg (by omega)]; exact L1
      generalize jp w1 1000 (U + 4) (6 * (SL0.length : Int) + 3) (x.2.2.2.1 + 1) = w2 at *
      rw [T2.sgn (by omega), Option.bind_some] at e44
      have e44 : b_X39_operands_11 t U SL0.length 1 = if (if (wd g n z.1.1).1 = 5 ∧ (wd g n z.1.1).2.1 = 44 then (1 : Int) else 0) = 0 then some (.inl (w2, [U, (SL0.length : Int), if (wd g n z.1.1).1 = 5 ∧ (wd g n z.1.1).2.1 = 44 then (1 : Int) else 0])) else (m_X39_next w2 U).bind fun q5 => some (.inl (q5.1, [U, (SL0.length : Int), if (wd g n z.1.1).1 = 5 ∧ (wd g n z.1.1).2.1 = 44 then (1 : Int) else 0])) := e44
      have no44 : ¬ ((wd g n z.1.1).1 = 5 ∧ (wd g n z.1.1).2.1 = 44) → jlpW C [U, (SL0.length : Int), 1] t = u_X39_operands_57 w2 U := fun c => by
        rw [if_neg c, if_pos rfl] at e44
        rw [jlpW_l (s' := w2) (vs' := [U, (SL0.length : Int), 0]) (by rw [ev, e44]), stop _ _ _ T2]
      obtain ⟨w3, e3, s3, f3⟩ := y_ops57 T2
      have e3 : u_X39_operands_57 w2 U = some (w3, if (wd g n z.1.1).1 = 0 then 1 else 0) := e3
      show osOut _ t U g n SL0 ln (if (wd g n z.1.1).1 = 6 then .inl ((wd g n z.1.1).2.1, (wd g n z.1.1).2.2.1) else if (wd g n z.1.1).1 = 5 ∧ (wd g n z.1.1).2.1 = 44 then pvOps g n m ((wd g n z.1.1).2.2.2, z.1.2) (I ++ z.2.1) (OL ++ [z.2.2]) (sMany x (x.2.2.2.1 + 1)) else if (wd g n z.1.1).1 = 0 then .inr (z.1, I ++ z.2.1, OL ++ [z.2.2], sMany x (x.2.2.2.1 + 1)) else .inl (5, (wd g n z.1.1).2.2.1))
      by_cases c6 : (wd g n z.1.1).1 = 6
      · rw [if_pos c6]
        have f3 : tFl w2 w3 U (if (wd g n z.1.1).1 = 6 then (wd g n z.1.1).2.1 else 5) (wd g n z.1.1).2.2.1 := f3 (by show ¬ (wd g n z.1.1).1 = 0; omega)
        rw [if_pos c6] at f3
        exact ⟨w3, by rw [no44 (by omega), e3, if_neg (by omega)], K2.trans f3.1.ya, f3.2⟩
      rw [if_neg c6]
      by_cases c44 : (wd g n z.1.1).1 = 5 ∧ (wd g n z.1.1).2.1 = 44
      · rw [if_pos c44]
        rw [if_pos c44, if_neg (show ¬ (1 : Int) = 0 by decide)] at e44
        obtain ⟨w4, z4, e4, T4, K4⟩ := T2.next c6
        have T4 : tB w4 U g n ((wd g n z.1.1).2.2.2, z.1.2.1, z.1.2.2, h1) (I ++ z.2.1) := T4
        have hw := wd_in hb (p := z.1.1) (by omega) ok.2.1
        have h7 := hw.2.2.2.1 c6
        rw [e4, Option.bind_some] at e44
        rw [jlpW_l (s' := w4) (vs' := [U, (SL0.length : Int), 1]) (by rw [ev, e44]), hC]
        exact (y_ops m w4 ((wd g n z.1.1).2.2.2, z.1.2) h1 (I ++ z.2.1) (OL ++ [z.2.2]) (sMany x (x.2.2.2.1 + 1)) (by show (n + 1 - (wd g n z.1.1).2.2.2).toNat ≤ m; omega) T4 (B1.rd K4) (by rw [K4.2 43 U 12 (by omega) (by omega)]; show 0 ≤ jf w2 43 U 12 ∧ jf w2 43 U 12 ≤ (wd g n z.1.1).2.2.2; omega) (by show 0 ≤ x.2.2.2.1 + 1 ∧ x.2.2.2.1 + 1 ≤ ((OL ++ [z.2.2]).length : Int); rw [show ((OL ++ [z.2.2]).length : Int) = OL.length + 1 by simp]; omega)).after (K2.trans K4.ya)
      rw [if_neg c44]
      by_cases c0 : (wd g n z.1.1).1 = 0
      · rw [if_pos c0]
        have s3 := s3 c0
        exact ⟨w2, h1, by rw [no44 c44, e3, if_pos c0, s3], T2, B1, L2, K2, c0⟩
      · rw [if_neg c0]
        have f3 : tFl w2 w3 U (if (wd g n z.1.1).1 = 6 then (wd g n z.1.1).2.1 else 5) (wd g n z.1.1).2.2.1 := f3 c0
        rw [if_neg c6] at f3
        exact ⟨w3, by rw [no44 c44, e3, if_neg c0], K2.trans f3.1.ya, f3.2⟩
end jToper5
