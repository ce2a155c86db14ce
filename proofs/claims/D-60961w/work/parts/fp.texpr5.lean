/-! the twin's expressions: a single term -/
section jTexpr5
variable {s t u w v' : jS} {U n p p' q r k c f v y e d o z a a' b' pl : Int} {g : Int → Int} {l m : List Int} {NL : List (List Int)} {W : wR4} {st st' : pS} {I I' E L L1 L2 : pI} {S S' P : List Int} {G : gP}
/-- the loop of an expression, an operand wanted (1) or not (0) -/
noncomputable def exL (U : Int) (t : jS) (x : Int) : Option (jS × Int) := jlpW (jc3 b_X39_expression_19) [U, x, 1] t
def exOut (U : Int) (g : Int → Int) (n : Int) (t : jS) (x : Int) (I : pI) (S : List Int) (pr : pR) : Prop := match pr with
  | .inl e => ∃ w, exL U t x = some (w, 0) ∧ tFl t w U e.1 e.2
  | .inr z => ∃ w, exL U t x = exL U w 0 ∧ tR w U g n z.1 (I ++ z.2 ++ unU S) (unD S) ∧ yE t w U
def SgT (U : Int) (g : Int → Int) (n : Int) (G : gP) (d : Int) : Prop := ∀ t st I S, tR t U g n st I S → 1 + sD S = d → exOut U g n t 1 I S (G.2.2.1 st d)
def InT (U : Int) (g : Int → Int) (n : Int) (G : gP) (d : Int) : Prop := ∀ t st I S, tR t U g n st I (1 :: S) → 2 + sD S = d → exOut U g n t 1 I S (G.2.2.2 st d)
def topOK (b : Int) : List Int → Prop
  | [] => True
  | o :: _ => ¬ (o = 10 ∨ o = 11) ∧ (11 < o → bnO o < b)
def exOut2 (U : Int) (g : Int → Int) (n : Int) (t : jS) (x b : Int) (I : pI) (S : List Int) (pr : pR) : Prop := match pr with
  | .inl e => ∃ w, exL U t x = some (w, 0) ∧ tFl t w U e.1 e.2
  | .inr z => ∃ w E P, exL U t x = exL U w 0 ∧ tR w U g n z.1 (I ++ E) (P ++ S) ∧ yE t w U ∧ z.2 = E ++ P.map (fun o => (o, 0)) ∧ (∀ o ∈ P, 11 < o ∧ b ≤ bnO o) ∧ ¬ (wd g n z.1.1).1 = 6 ∧ (opO (wd g n z.1.1) = -1 ∨ bnO (opO (wd g n z.1.1)) < b)
def SuT (U : Int) (g : Int → Int) (n : Int) (G : gP) (d b : Int) : Prop := ∀ t st I S, tR t U g n st I S → 1 + sD S = d → topOK b S → exOut2 U g n t 1 b I S (G.1 st d b)
theorem exOut.after {pr : pR} {x x' : Int} (h : exOut U g n u x' I S pr) (e : exL U t x = exL U u x') (k : yE t u U) : exOut U g n t x I S pr := by
  cases pr with
  | inl z => obtain ⟨w, h1, h2⟩ := h; exact ⟨w, e.trans h1, h2.after k⟩
  | inr z => obtain ⟨w, h1, h2, h3⟩ := h; exact ⟨w, e.trans h1, h2, k.trans h3⟩
theorem exOut2.after {pr : pR} {x x' b : Int} (h : exOut2 U g n u x' b I S pr) (e : exL U t x = exL U u x') (k : yE t u U) : exOut2 U g n t x b I S pr := by
  cases pr with
  | inl z => obtain ⟨w, h1, h2⟩ := h; exact ⟨w, e.trans h1, h2.after k⟩
  | inr z => obtain ⟨w, E, P, h1, h2, h3, h4⟩ := h; exact ⟨w, E, P, e.trans h1, h2, k.trans h3, h4⟩
theorem y_sgn (T : tR t U g n st I S) (hv : 0 ≤ v ∧ v < 256) : m_X39_isSign t U v = some (if (wd g n st.1).1 = 5 ∧ (wd g n st.1).2.1 = v then 1 else 0) := by
  have hs := fun z => wd_sg T.1.2.2.1 T.2.2.1.1 T.2.2.1.2 z
  rw [y_isSign]
  by_cases c5 : (wd g n st.1).1 = 5
  · have h16 := T.2.1.2.2.2.2.2.1 c5
    have := hs c5
    have e : sgT (wd g n st.1).2.1 = v ↔ (wd g n st.1).2.1 = v := by unfold sgT; split <;> (try split) <;> omega
    by_cases c : (wd g n st.1).2.1 = v
    · rw [if_pos ⟨T.2.1.1.trans c5, h16.trans (e.mpr c)⟩, if_pos ⟨c5, c⟩]
    · rw [if_neg (fun z => c (e.mp (h16.symm.trans z.2))), if_neg (fun z => c z.2)]
  · rw [if_neg (fun z => c5 (T.2.1.1.symm.trans z.1)), if_neg (fun z => c5 z.1)]
theorem y_opr (T : tR t U g n st I S) : m_X39_operator t U = some (if opO (wd g n st.1) = -1 then 0 else opO (wd g n st.1)) := by
  have hw := wd_in T.1.2.2.1 T.2.2.1.1 T.2.2.1.2
  exact y_operator T.2.1 hw.2.2.2.2.2.2 fun z => by have := wd_sg T.1.2.2.1 T.2.2.1.1 T.2.2.1.2 z; omega
theorem rgO_pt : rgO [46] = -1 := by
  unfold rgO
  rw [if_neg (by decide), if_neg (by decide), if_neg (by decide), if_neg (by decide), if_neg (by decide), if_neg (by decide)]
  unfold rgN
  rw [cif_neg (fun z => by have := z.1; exact absurd this (by decide)), cif_neg (fun z => by have := z.1; exact absurd this (by decide))]
/-- no register is wanted -/
theorem y_regw (T : tR t U g n st I S) : m_X39_register t U = some (if (wd g n st.1).1 = 1 ∨ (wd g n st.1).1 = 7 then rgO (nmO g (wd g n st.1).2.2.1 (wd g n st.1).2.2.2) else -1) := by
  have h15 := T.2.1.1
  have hn := wd_nm T.1.2.2.1 T.2.2.1.1 T.2.2.1.2
  by_cases c1 : (wd g n st.1).1 = 1
  · rw [if_pos (.inl c1)]; exact y_register (h15.trans c1) (T.2.1.nm T.1 T.2.2.1.1 T.2.2.1.2 (.inl c1))
  · rw [y_regNo (by omega)]
    by_cases c7 : (wd g n st.1).1 = 7
    · rw [if_pos (.inr c7), hn.1 c7, rgO_pt]
    · rw [if_neg (by omega)]
/-- an operand's first word is looked at: what is no single term -/
theorem y_wanted0 (T : tR t U g n st I S) : m_X39_wanted t U = u_X39_wanted_62 t U (if (wd g n st.1).1 = 5 ∧ ((wd g n st.1).2.1 = 45 ∨ (wd g n st.1).2.1 = 126) then 1 else 0) (if (wd g n st.1).1 = 1 ∨ (wd g n st.1).1 = 7 ∨ (wd g n st.1).1 = 2 ∨ (wd g n st.1).1 = 3 then 1 else 0) := by
  have h15 := T.2.1.1
  rw [em_X39_wanted]; unfold dm_X39_wanted
  rw [y_sgn T (by omega), Option.bind_some]
  have e23 : ∀ x, u_X39_wanted_23 t U x = u_X39_wanted_62 t U x (if (wd g n st.1).1 = 1 ∨ (wd g n st.1).1 = 7 ∨ (wd g n st.1).1 = 2 ∨ (wd g n st.1).1 = 3 then 1 else 0) := fun x => by
    rw [eu_X39_wanted_23]; unfold du_X39_wanted_23
    rw [h15, eu_X39_wanted_57]; unfold du_X39_wanted_57
    by_cases c2 : (wd g n st.1).1 = 2
    · rw [if_pos c2, if_pos (by omega)]
    rw [if_neg c2]
    by_cases c3 : (wd g n st.1).1 = 3
    · rw [if_pos c3, if_pos (by omega)]
    rw [if_neg c3]
    by_cases c7 : (wd g n st.1).1 = 7
    · rw [if_pos c7, if_pos (by omega)]
    rw [if_neg c7]
    by_cases c1 : (wd g n st.1).1 = 1
    · rw [if_pos c1, if_pos (by omega)]
    rw [if_neg c1, if_neg (by omega)]
  have e18 : u_X39_wanted_18 t U = u_X39_wanted_23 t U 1 := by
    rw [eu_X39_wanted_18]; unfold du_X39_wanted_18; rfl
  by_cases c45 : (wd g n st.1).1 = 5 ∧ (wd g n st.1).2.1 = 45
  · rw [if_pos c45, if_neg (by decide), e18, e23, if_pos (show (wd g n st.1).1 = 5 ∧ ((wd g n st.1).2.1 = 45 ∨ (wd g n st.1).2.1 = 126) by omega)]
  rw [if_neg c45, if_pos rfl, y_sgn T (by omega), Option.bind_some]
  by_cases c126 : (wd g n st.1).1 = 5 ∧ (wd g n st.1).2.1 = 126
  · rw [if_pos c126, if_neg (by decide), e18, e23, if_pos (show (wd g n st.1).1 = 5 ∧ ((wd g n st.1).2.1 = 45 ∨ (wd g n st.1).2.1 = 126) by omega)]
  · rw [if_neg c126, if_pos rfl, e23, if_neg (show ¬ ((wd g n st.1).1 = 5 ∧ ((wd g n st.1).2.1 = 45 ∨ (wd g n st.1).2.1 = 126)) by omega)]
/-- what `wanted` gives, as the loop takes it -/
theorem y_want {q : jS × Int} (h : m_X39_wanted t U = some q) : exL U t 1 = if q.2 = 0 then some (q.1, 0) else exL U q.1 (if q.2 = 2 then 1 else 0) := by
  unfold exL
  by_cases c0 : q.2 = 0
  · rw [if_pos c0]
    refine jlpW_r ?_
    show b_X39_expression_19 t U 1 1 = _
    unfold b_X39_expression_19
    rw [if_neg (by decide), if_neg (by decide), h, Option.bind_some, if_pos c0, Wz_0]
  · rw [if_neg c0]
    have e48 : ∀ x, u_X39_expression_48 q.1 U 1 x = some (.inl (q.1, [U, x, 1])) := fun x => by
      rw [eu_X39_expression_48]; unfold du_X39_expression_48; rfl
    refine jlpW_l ?_
    show b_X39_expression_19 t U 1 1 = _
    unfold b_X39_expression_19
    rw [if_neg (by decide), if_neg (by decide), h, Option.bind_some, if_neg c0, e48, e48]
    by_cases c2 : q.2 = 2
    · rw [if_pos c2, if_pos c2]
    · rw [if_neg c2, if_neg c2]
/-- a leaf is told -/
theorem y_leaf (T : tR t U g n st I S) (hb : I.length + sN S + 1 ≤ st.2.2.1) (h6 : ¬ (wd g n st.1).1 = 6) : ∃ w, u_X39_wanted_335 t U v o U = some (w, 1) ∧ tR w U g n ((wd g n st.1).2.2.2, st.2) (I ++ [(o, v)] ++ unU S) (unD S) ∧ yE t w U := by
  rw [eu_X39_wanted_335]; unfold du_X39_wanted_335
  obtain ⟨w1, e1, T1, K1, -⟩ := T.emit (o := o) (v := v) hb
  obtain ⟨w2, e2, T2, K2⟩ := y_ahead S w1 _ T1
  obtain ⟨w3, z, e3, T3, K3⟩ := T2.next h6
  have ea : m_X39_ahead w1 U = some (w2, 0) := by
    rw [em_X39_ahead]; unfold dm_X39_ahead
    rw [eu_X39_ahead_0]; unfold du_X39_ahead_0
    exact e2
  refine ⟨w3, ?_, T3, (K1.trans K2).trans K3⟩
  rw [e1, Option.bind_some, ea, Option.bind_some, e3, Option.bind_some]
theorem exFl {z : Int × Int} {q : jS × Int} (h : m_X39_wanted t U = some q) (h0 : q.2 = 0) (hf : tFl t q.1 U z.1 z.2) : exOut U g n t 1 I S (.inl z) := ⟨q.1, by rw [y_want h, if_pos h0], hf⟩
theorem ct_lf (T : tR t U g n st I S) (hd : 1 + sD S = d) (d2 : d ≤ 20) (hk : (wd g n st.1).1 = 1 ∨ (wd g n st.1).1 = 7 ∨ (wd g n st.1).1 = 2 ∨ (wd g n st.1).1 = 3) (hw : m_X39_wanted t U = u_X39_wanted_105 t U 0) : exOut U g n t 1 I S (sgR g n G st d) := by
  have h6 : ¬ (wd g n st.1).1 = 6 := by omega
  have hu : u_X39_wanted_105 t U 0 = (m_X39_tally t U).bind fun q3 => if q3.2 = 0 then some (q3.1, 0) else if (jf q3.1 43 U 15) = 1 then (m_X39_number q3.1 U).bind fun q4 => u_X39_wanted_274 q4.1 U q4.2 else if (jf q3.1 43 U 15) = 7 then u_X39_wanted_274 q3.1 U 0 else u_X39_wanted_274 q3.1 U (jf q3.1 43 U 16) := by
    rw [eu_X39_wanted_105]; unfold du_X39_wanted_105
    rw [T.2.2.2.2.2.2.2.1.2.2.2.1, if_neg (by omega), y_sgn T (by omega), Option.bind_some, if_neg (show ¬ ((wd g n st.1).1 = 5 ∧ (wd g n st.1).2.1 = 40) by omega), if_pos rfl]
    simp only [if_pos]
  rw [hu] at hw
  have ty := y_tally T
  unfold sgR
  rw [if_neg (by omega), if_neg (by omega)]
  by_cases c3 : st.2.2.1 = 2000 ∨ st.2.2.2 = 60
  · rw [if_pos c3] at ty ⊢
    obtain ⟨w, e, hf⟩ := ty
    rw [e, Option.bind_some, if_pos rfl] at hw
    rw [if_neg h6] at hf
    exact exFl hw rfl hf
  rw [if_neg c3] at ty ⊢
  obtain ⟨w1, e1, T1, K1, k15, k16, hb⟩ := ty
  rw [e1, Option.bind_some, if_neg (show ¬ (1 : Int) = 0 by decide)] at hw
  rw [if_neg (show ¬ (wd g n st.1).1 = 5 by omega)]
  have h15 : jf w1 43 U 15 = (wd g n st.1).1 := T1.2.1.1
  have hb' : I.length + sN S + 1 ≤ (st.1, st.2.1, st.2.2.1 + 1, st.2.2.2 + 1).2.2.1 := hb
  have e274 : ∀ v (w : jS), jf w 43 U 15 = (wd g n st.1).1 → ((wd g n st.1).1 = 1 → ¬ v = -1) → u_X39_wanted_274 w U v = u_X39_wanted_335 w U v (if (wd g n st.1).1 = 2 then 0 else if (wd g n st.1).1 = 1 then 1 else if (wd g n st.1).1 = 3 then 2 else 3) U := fun v w hw15 h => by
    rw [eu_X39_wanted_274]; unfold du_X39_wanted_274
    have e297 : u_X39_wanted_297 w U v = u_X39_wanted_335 w U v (if (wd g n st.1).1 = 2 then 0 else if (wd g n st.1).1 = 1 then 1 else if (wd g n st.1).1 = 3 then 2 else 3) U := by
      rw [eu_X39_wanted_297]; unfold du_X39_wanted_297
      rw [hw15]
      by_cases c2 : (wd g n st.1).1 = 2
      · rw [if_pos c2, if_pos c2]
      rw [if_neg c2, if_neg c2]
      by_cases c1 : (wd g n st.1).1 = 1
      · rw [if_pos c1, if_pos c1]
      rw [if_neg c1, if_neg c1]
      by_cases c3 : (wd g n st.1).1 = 3
      · rw [if_pos c3, if_pos c3]
      rw [if_neg c3, if_neg c3]
    rw [hw15, e297]
    by_cases c1 : (wd g n st.1).1 = 1
    · rw [if_pos c1, if_neg (h c1)]
    · rw [if_neg c1]
  by_cases c1 : (wd g n st.1).1 = 1
  · rw [if_pos (h15.trans c1)] at hw
    rw [if_pos c1]
    have ny := y_numbr T1 c1
    have ny : if nmIx st.2.1 (nmO g (wd g n st.1).2.2.1 (wd g n st.1).2.2.2) = 150 then m_X39_number w1 U = some (w1, -1) else ∃ w, m_X39_number w1 U = some (w, ((nmIx st.2.1 (nmO g (wd g n st.1).2.2.1 (wd g n st.1).2.2.2) : Nat) : Int)) ∧ tR w U g n (st.1, nmAdd st.2.1 (nmO g (wd g n st.1).2.2.1 (wd g n st.1).2.2.2), st.2.2.1 + 1, st.2.2.2 + 1) I S ∧ yE w1 w U ∧ jf w 43 U 15 = jf w1 43 U 15 := ny
    by_cases c150 : nmIx st.2.1 (nmO g (wd g n st.1).2.2.1 (wd g n st.1).2.2.2) = 150
    · rw [if_pos c150] at ny ⊢
      obtain ⟨w, e, hf⟩ := y_fail (f := 8) T1.2.1 T1.2.2.2.1
      have hf : tFl w1 w U (if (wd g n st.1).1 = 6 then (wd g n st.1).2.1 else 8) (wd g n st.1).2.2.1 := hf
      rw [if_neg h6] at hf
      rw [ny, Option.bind_some, eu_X39_wanted_274] at hw
      unfold du_X39_wanted_274 at hw
      rw [if_pos (h15.trans c1), if_pos rfl, e, Option.bind_some] at hw
      exact exFl hw rfl (hf.after K1)
    · rw [if_neg c150] at ny ⊢
      obtain ⟨w2, e2, T2, K2, k2⟩ := ny
      rw [e2, Option.bind_some, e274 _ w2 (k2.trans h15) (fun _ => by omega), if_neg (show ¬ (wd g n st.1).1 = 2 by omega), if_pos c1] at hw
      obtain ⟨w3, e3, T3, K3⟩ := y_leaf (o := 1) (v := ((nmIx st.2.1 (nmO g (wd g n st.1).2.2.1 (wd g n st.1).2.2.2) : Nat) : Int)) T2 hb' h6
      rw [e3] at hw
      exact ⟨w3, by rw [y_want hw, if_neg (show ¬ (1 : Int) = 0 by decide), if_neg (show ¬ (1 : Int) = 2 by decide)], T3, (K1.trans K2).trans K3⟩
  rw [if_neg (fun z => c1 (h15.symm.trans z))] at hw
  rw [if_neg c1]
  have fin : ∀ {o v : Int}, u_X39_wanted_335 w1 U v o U = m_X39_wanted t U → exOut U g n t 1 I S (.inr (((wd g n st.1).2.2.2, st.2.1, st.2.2.1 + 1, st.2.2.2 + 1), [(o, v)])) := fun {o v} h => by
    obtain ⟨w3, e3, T3, K3⟩ := y_leaf (o := o) (v := v) T1 hb' h6
    exact ⟨w3, by rw [y_want (h.symm.trans e3), if_neg (show ¬ (1 : Int) = 0 by decide), if_neg (show ¬ (1 : Int) = 2 by decide)], T3, K1.trans K3⟩
  by_cases c7 : (wd g n st.1).1 = 7
  · rw [if_pos (h15.trans c7), e274 _ w1 h15 (fun z => absurd z c1), if_neg (show ¬ (wd g n st.1).1 = 2 by omega), if_neg c1, if_neg (show ¬ (wd g n st.1).1 = 3 by omega)] at hw
    rw [if_neg (show ¬ (wd g n st.1).1 = 2 by omega), if_neg (show ¬ (wd g n st.1).1 = 3 by omega)]
    exact fin hw.symm
  rw [if_neg (fun z => c7 (h15.symm.trans z)), e274 _ w1 h15 (fun z => absurd z c1), k16, T.2.1.2.2.2.2.1 (by omega)] at hw
  by_cases c2 : (wd g n st.1).1 = 2
  · rw [if_pos c2] at hw ⊢
    exact fin hw.symm
  · rw [if_neg c2, if_neg c1, if_pos (show (wd g n st.1).1 = 3 by omega)] at hw
    rw [if_neg c2, if_pos (show (wd g n st.1).1 = 3 by omega)]
    exact fin hw.symm
end jTexpr5
