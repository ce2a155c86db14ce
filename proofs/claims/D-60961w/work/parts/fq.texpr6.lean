/-! the twin's expressions: the whole recursion -/
section jTexpr6
variable {s t u w v' : jS} {U n p p' q r k c f v y e d o z a a' b' pl b : Int} {g : Int → Int} {l m : List Int} {NL : List (List Int)} {W : wR4} {st st' : pS} {I I' E L L1 L2 : pI} {S S' P : List Int} {G : gP}
theorem ct_un (h1 : d ≤ 20 → SgT U g n G (d + 1)) (T : tR t U g n st I S) (hd : 1 + sD S = d) (d2 : d ≤ 20) (hk : (wd g n st.1).1 = 5 ∧ ((wd g n st.1).2.1 = 45 ∨ (wd g n st.1).2.1 = 126)) (hw : m_X39_wanted t U = u_X39_wanted_105 t U 1) : exOut U g n t 1 I S (sgR g n G st d) := by
  have h6 : ¬ (wd g n st.1).1 = 6 := by omega
  have hu : u_X39_wanted_105 t U 1 = (m_X39_tally t U).bind fun q3 => if q3.2 = 0 then some (q3.1, 0) else if (jf q3.1 43 U 16) = 45 then u_X39_wanted_215 q3.1 U 10 (jf q3.1 43 U 23) (U + 10) else u_X39_wanted_215 q3.1 U 11 (jf q3.1 43 U 23) (U + 10) := by
    rw [eu_X39_wanted_105]; unfold du_X39_wanted_105
    rw [T.2.2.2.2.2.2.2.1.2.2.2.1, if_neg (by omega), y_sgn T (by omega), Option.bind_some, if_neg (show ¬ ((wd g n st.1).1 = 5 ∧ (wd g n st.1).2.1 = 40) by omega), if_pos rfl]
    simp only [if_neg (show ¬ (1 : Int) = 0 by decide)]
  rw [hu] at hw
  have ty := y_tally T
  unfold sgR
  rw [if_neg (by omega), if_neg (by omega)]
  by_cases c3 : st.2.2.1 = 2000 ∨ st.2.2.2 = 60
  · rw [if_pos c3] at ty ⊢
    obtain ⟨w, e, hf⟩ := ty
    rw [e, Option.bind_some, if_pos rfl] at hw
    rw [if_neg h6] at hf
    exact exFl hw rfl hf
  rw [if_neg c3] at ty ⊢
  obtain ⟨w1, e1, T1, K1, k15, k16, hb⟩ := ty
  rw [e1, Option.bind_some, if_neg (show ¬ (1 : Int) = 0 by decide)] at hw
  rw [if_pos hk.1]
  have s16 : sgT (wd g n st.1).2.1 = (wd g n st.1).2.1 := by unfold sgT; rw [if_neg (by omega), if_neg (by omega)]
  rw [show jf (w1, (1 : Int)).1 43 U 16 = (wd g n st.1).2.1 by show jf w1 43 U 16 = _; rw [k16, T.2.1.2.2.2.2.2.1 hk.1, s16]] at hw
  have e215 : ∀ o, o = 10 ∨ o = 11 → o = (if (wd g n st.1).2.1 = 45 then (10 : Int) else 11) → m_X39_wanted t U = u_X39_wanted_215 w1 U o (jf w1 43 U 23) (U + 10) → exOut U g n t 1 I S (match G.2.2.1 ((wd g n st.1).2.2.2, st.2.1, st.2.2.1 + 1, st.2.2.2 + 1) (d + 1) with
    | .inl e => .inl e
    | .inr (s', L) => .inr (s', L ++ [(if (wd g n st.1).2.1 = 45 then 10 else 11, 0)])) := fun o ho ho' hw => by
    obtain ⟨p1, p2, p3, p4, p5, T2, K2⟩ := T1.push1 ho hb
    obtain ⟨w3, z3, e3, T3, K3⟩ := T2.next h6
    have hl := T1.2.2.2.2.2.2.2.1.1
    have ho2 := sO_lo S
    rw [eu_X39_wanted_215] at hw
    unfold du_X39_wanted_215 at hw
    simp only [jls] at hw
    rw [hl, p1, Option.bind_some, p2, W32_in (z := (S.length : Int) + 1) (by omega) (by omega), p4, W32_in (by omega) (by omega), e3, Option.bind_some] at hw
    have ex := y_want hw
    rw [if_neg (show ¬ (2 : Int) = 0 by decide), if_pos rfl] at ex
    have ih := h1 d2 w3 ((wd g n st.1).2.2.2, st.2.1, st.2.2.1 + 1, st.2.2.2 + 1) I (o :: S) T3 (by
      show 1 + ((if o ≤ 11 then (1 : Int) else 0) + sD S) = d + 1
      rw [if_pos (by omega)]; omega)
    have ih2 := ih.after ex ((K1.trans K2).trans K3)
    rw [← ho']
    cases hG : G.2.2.1 ((wd g n st.1).2.2.2, st.2.1, st.2.2.1 + 1, st.2.2.2 + 1) (d + 1) with
    | inl z => rw [hG] at ih2; exact ih2
    | inr z =>
      rw [hG] at ih2
      obtain ⟨w4, x1, x2, x3⟩ := ih2
      refine ⟨w4, x1, ?_, x3⟩
      have x2 : tR w4 U g n z.1 (I ++ z.2 ++ (if o = 10 ∨ o = 11 then (o, 0) :: unU S else [])) (if o = 10 ∨ o = 11 then unD S else o :: S) := x2
      rw [if_pos ho, if_pos ho] at x2
      show tR w4 U g n z.1 (I ++ (z.2 ++ [(o, 0)]) ++ unU S) (unD S)
      rw [show I ++ (z.2 ++ [(o, 0)]) ++ unU S = I ++ z.2 ++ (o, 0) :: unU S by simp]
      exact x2
  by_cases c45 : (wd g n st.1).2.1 = 45
  · rw [if_pos c45] at hw; exact e215 10 (.inl rfl) (by rw [if_pos c45]) hw
  · rw [if_neg c45] at hw; exact e215 11 (.inr rfl) (by rw [if_neg c45]) hw
theorem ct_br (h2 : d ≤ 20 → InT U g n G (d + 1)) (T : tR t U g n st I S) (hd : 1 + sD S = d) (d2 : d ≤ 20) (hk : (wd g n st.1).1 = 5 ∧ (wd g n st.1).2.1 = 40) (hw : m_X39_wanted t U = u_X39_wanted_105 t U 0) : exOut U g n t 1 I S (sgR g n G st d) := by
  have h6 : ¬ (wd g n st.1).1 = 6 := by omega
  have ho := sO_lo S
  obtain ⟨p1, p2, p3, p4, p5, p6, p7, T2, K2⟩ := T.pushB (by omega)
  obtain ⟨w3, z3, e3, T3, K3⟩ := T2.next h6
  rw [eu_X39_wanted_105] at hw
  unfold du_X39_wanted_105 at hw
  rw [T.2.2.2.2.2.2.2.1.2.2.2.1, if_neg (by omega), y_sgn T (by omega), Option.bind_some, if_pos hk, if_neg (by decide)] at hw
  simp only [jls] at hw
  rw [p1, Option.bind_some, p2, W32_in (z := (S.length : Int) + 1) (by omega) (by omega), p4, W32_in (z := sO S + 1) (by omega) (by omega), p5, W32_in (by omega) (by omega), e3, Option.bind_some] at hw
  have ex := y_want hw
  rw [if_neg (show ¬ (2 : Int) = 0 by decide), if_pos rfl] at ex
  unfold sgR
  rw [if_neg (by omega), if_pos hk]
  exact (h2 d2 w3 ((wd g n st.1).2.2.2, st.2) I S T3 (by omega)).after ex (K2.trans K3)
theorem ct_one (h1 : d ≤ 20 → SgT U g n G (d + 1)) (h2 : d ≤ 20 → InT U g n G (d + 1)) (T : tR t U g n st I S) (hd : 1 + sD S = d) : exOut U g n t 1 I S (sglF g n G st d) := by
  have h0 := y_wanted0 T
  have hr := y_regw T
  have h26 := T.2.2.2.2.2.2.2.1.2.2.2.1
  rw [sglF_eq]
  have fl : ∀ f {z : Int × Int}, z = ((if (wd g n st.1).1 = 6 then (wd g n st.1).2.1 else f), (wd g n st.1).2.2.1) → m_X39_wanted t U = ((m_X39_fail t U f).bind fun q => some (q.1, 0)) → exOut U g n t 1 I S (.inl z) := fun f z hz h => by
    obtain ⟨w, e, hf⟩ := y_fail (f := f) T.2.1 T.2.2.2.1
    rw [e, Option.bind_some] at h
    subst hz
    exact exFl h rfl hf
  have e105 : ∀ x, 20 < d → u_X39_wanted_105 t U x = (m_X39_fail t U 7).bind fun q => some (q.1, 0) := fun x h => by
    rw [eu_X39_wanted_105]; unfold du_X39_wanted_105
    rw [h26, if_pos (by omega)]
  have sg7 : 20 < d → sgR g n G st d = .inl (7, (wd g n st.1).2.2.1) := fun h => by unfold sgR; rw [if_pos h]
  by_cases c6 : (wd g n st.1).1 = 6
  · rw [if_pos c6]
    rw [if_neg (show ¬ ((wd g n st.1).1 = 5 ∧ ((wd g n st.1).2.1 = 45 ∨ (wd g n st.1).2.1 = 126)) by omega), if_neg (show ¬ ((wd g n st.1).1 = 1 ∨ (wd g n st.1).1 = 7 ∨ (wd g n st.1).1 = 2 ∨ (wd g n st.1).1 = 3) by omega), eu_X39_wanted_62] at h0
    unfold du_X39_wanted_62 at h0
    rw [hr, if_neg (show ¬ ((wd g n st.1).1 = 1 ∨ (wd g n st.1).1 = 7) by omega), Option.bind_some, if_pos rfl, if_pos rfl, if_pos rfl, y_sgn T (by omega), Option.bind_some, if_neg (show ¬ ((wd g n st.1).1 = 5 ∧ (wd g n st.1).2.1 = 40) by omega), if_pos rfl] at h0
    exact fl 5 (by rw [if_pos c6]) h0
  rw [if_neg c6]
  by_cases c5 : (wd g n st.1).1 = 5
  · rw [if_neg (show ¬ ((wd g n st.1).1 = 1 ∨ (wd g n st.1).1 = 7 ∨ (wd g n st.1).1 = 2 ∨ (wd g n st.1).1 = 3) by omega), eu_X39_wanted_62] at h0
    unfold du_X39_wanted_62 at h0
    rw [hr, if_neg (show ¬ ((wd g n st.1).1 = 1 ∨ (wd g n st.1).1 = 7) by omega), Option.bind_some, if_pos rfl] at h0
    by_cases cu : (wd g n st.1).2.1 = 45 ∨ (wd g n st.1).2.1 = 126
    · rw [if_pos (show (wd g n st.1).1 = 5 ∧ ((wd g n st.1).2.1 = 45 ∨ (wd g n st.1).2.1 = 126) from ⟨c5, cu⟩), if_neg (show ¬ (1 : Int) = 0 by decide)] at h0
      rw [if_neg (fun z => z.1 ⟨c5, by omega⟩), if_neg (fun z => by have := z.1; omega)]
      by_cases c20 : 20 < d
      · rw [sg7 c20]; exact fl 7 (by rw [if_neg c6]) (h0.trans (e105 1 c20))
      · exact ct_un h1 T hd (by omega) ⟨c5, cu⟩ h0
    rw [if_neg (show ¬ ((wd g n st.1).1 = 5 ∧ ((wd g n st.1).2.1 = 45 ∨ (wd g n st.1).2.1 = 126)) from fun z => cu z.2), if_pos rfl, if_pos rfl, y_sgn T (by omega), Option.bind_some] at h0
    by_cases c40 : (wd g n st.1).2.1 = 40
    · rw [if_pos (show (wd g n st.1).1 = 5 ∧ (wd g n st.1).2.1 = 40 from ⟨c5, c40⟩), if_neg (show ¬ (1 : Int) = 0 by decide)] at h0
      rw [if_neg (fun z => z.1 ⟨c5, by omega⟩), if_neg (fun z => by have := z.1; omega)]
      by_cases c20 : 20 < d
      · rw [sg7 c20]; exact fl 7 (by rw [if_neg c6]) (h0.trans (e105 0 c20))
      · exact ct_br h2 T hd (by omega) ⟨c5, c40⟩ h0
    · rw [if_neg (show ¬ ((wd g n st.1).1 = 5 ∧ (wd g n st.1).2.1 = 40) from fun z => c40 z.2), if_pos rfl] at h0
      rw [if_pos ⟨fun z => by omega, by omega⟩]
      exact fl 5 (by rw [if_neg c6]) h0
  rw [if_neg (show ¬ ((wd g n st.1).1 = 5 ∧ ((wd g n st.1).2.1 = 45 ∨ (wd g n st.1).2.1 = 126)) by omega)] at h0
  by_cases cl : (wd g n st.1).1 = 1 ∨ (wd g n st.1).1 = 7 ∨ (wd g n st.1).1 = 2 ∨ (wd g n st.1).1 = 3
  · rw [if_pos cl, eu_X39_wanted_62] at h0
    unfold du_X39_wanted_62 at h0
    rw [hr, Option.bind_some] at h0
    rw [if_neg (fun z => z.2 cl)]
    by_cases cr : ((wd g n st.1).1 = 1 ∨ (wd g n st.1).1 = 7) ∧ ¬ rgO (nmO g (wd g n st.1).2.2.1 (wd g n st.1).2.2.2) = -1
    · rw [if_pos cr]
      rw [if_pos cr.1, if_neg cr.2] at h0
      exact fl 6 (by rw [if_neg c6]) h0
    rw [if_neg cr]
    have hm : (if (wd g n st.1).1 = 1 ∨ (wd g n st.1).1 = 7 then rgO (nmO g (wd g n st.1).2.2.1 (wd g n st.1).2.2.2) else -1) = -1 := by
      split
      · rename_i z
        exact Classical.not_not.mp fun q => cr ⟨z, q⟩
      · rfl
    rw [hm, if_pos rfl, if_pos rfl, if_neg (by decide)] at h0
    by_cases c20 : 20 < d
    · rw [sg7 c20]; exact fl 7 (by rw [if_neg c6]) (h0.trans (e105 0 c20))
    · exact ct_lf T hd (by omega) cl h0
  · rw [if_neg cl, eu_X39_wanted_62] at h0
    unfold du_X39_wanted_62 at h0
    rw [hr, if_neg (show ¬ ((wd g n st.1).1 = 1 ∨ (wd g n st.1).1 = 7) by omega), Option.bind_some, if_pos rfl, if_pos rfl, if_pos rfl, y_sgn T (by omega), Option.bind_some, if_neg (show ¬ ((wd g n st.1).1 = 5 ∧ (wd g n st.1).2.1 = 40) by omega), if_pos rfl] at h0
    rw [if_pos ⟨fun z => c5 z.1, cl⟩]
    exact fl 5 (by rw [if_neg c6]) h0
/-- what is popped at once -/
theorem rd_all : ∀ {P : List Int}, (∀ o ∈ P, 11 < o ∧ b ≤ bnO o) → (∀ o S', S = o :: S' → ¬ (11 < o ∧ b ≤ bnO o)) → rdU b (P ++ S) = P.map (fun o => (o, 0)) ∧ rdD b (P ++ S) = S
  | [], _, h => by
    cases S with
    | nil => exact ⟨rfl, rfl⟩
    | cons o S' =>
      have := h o S' rfl
      show (if 11 < o ∧ b ≤ bnO o then (o, 0) :: rdU b S' else []) = [] ∧ (if 11 < o ∧ b ≤ bnO o then rdD b S' else o :: S') = o :: S'
      rw [if_neg this, if_neg this]; exact ⟨rfl, rfl⟩
  | o :: P, h1, h2 => by
    obtain ⟨e1, e2⟩ := rd_all (P := P) (fun o' ho' => h1 o' (List.mem_cons_of_mem _ ho')) h2
    have := h1 o List.mem_cons_self
    show (if 11 < o ∧ b ≤ bnO o then (o, 0) :: rdU b (P ++ S) else []) = (o, 0) :: P.map (fun o => (o, 0)) ∧ (if 11 < o ∧ b ≤ bnO o then rdD b (P ++ S) else o :: (P ++ S)) = S
    rw [if_pos this, if_pos this, e1, e2]; exact ⟨rfl, rfl⟩
theorem sD_app : ∀ {P : List Int}, (∀ o ∈ P, 11 < o) → sD (P ++ S) = sD S ∧ sO (P ++ S) = sO S
  | [], _ => ⟨rfl, rfl⟩
  | o :: P, h => by
    obtain ⟨e1, e2⟩ := sD_app (P := P) fun o' ho' => h o' (List.mem_cons_of_mem _ ho')
    have := h o List.mem_cons_self
    show (if o ≤ 11 then (1 : Int) else 0) + sD (P ++ S) = sD S ∧ (if o = 1 then (1 : Int) else 0) + sO (P ++ S) = sO S
    rw [if_neg (by omega), if_neg (by omega), e1, e2]; omega
theorem y_red (T : tR t U g n st I S) : ∃ w, m_X39_reduce t U b = some (w, 0) ∧ tR w U g n st (I ++ rdU b S) (rdD b S) ∧ yE t w U := by
  rw [em_X39_reduce]; unfold dm_X39_reduce
  rw [eu_X39_reduce_0]; unfold du_X39_reduce_0
  exact y_reduce S t I T
/-- a fault behind an operand -/
theorem ct_stop (T : tR t U g n st I S) (ho : opO (wd g n st.1) = -1) (hc : (wd g n st.1).1 = 6 ∨ (¬ ((wd g n st.1).1 = 5 ∧ (wd g n st.1).2.1 = 41) ∧ 0 < sO S)) : ∃ w, exL U t 0 = some (w, 0) ∧ tFl t w U (if (wd g n st.1).1 = 6 then (wd g n st.1).2.1 else 5) (wd g n st.1).2.2.1 := by
  obtain ⟨w, e, hf⟩ := y_fail (f := 5) T.2.1 T.2.2.2.1
  refine ⟨w, ?_, hf⟩
  have e185 : u_X39_expression_185 t U = some (w, 0) := by
    rw [eu_X39_expression_185]; unfold du_X39_expression_185
    rw [e, Option.bind_some, Wz_0]
  have e169 : u_X39_expression_169 t U 0 = jinr (some (w, 0)) := by
    rw [eu_X39_expression_169]; unfold du_X39_expression_169
    rw [T.2.2.2.2.2.2.2.1.2.2.1, e185]
    by_cases c : 0 < sO S
    · rw [if_pos c]
    · rw [if_neg c, if_pos (T.2.1.1.trans (hc.resolve_right fun z => c z.2))]
  unfold exL
  refine jlpW_r ?_
  show b_X39_expression_19 t U 0 1 = _
  unfold b_X39_expression_19
  rw [if_neg (by decide), if_pos rfl, y_opr T, if_pos ho, Option.bind_some, if_neg (by decide), y_sgn T (by omega), Option.bind_some, if_neg (show ¬ ((wd g n st.1).1 = 5 ∧ (wd g n st.1).2.1 = 41) by rcases hc with z | z; omega; exact z.1), if_pos rfl, e169]
theorem ct_more (hG : ∀ (st : pS) d l z, 0 ≤ st.1 → st.1 ≤ n → G.1 st d l = .inr z → st.1 ≤ z.1.1) (b1 : 1 ≤ b) (h1 : ∀ j, b < j → j ≤ 7 → SuT U g n G d j) : ∀ (m : Nat) (t : jS) (st : pS) (E L : pI) (P : List Int), (n + 1 - st.1).toNat ≤ m → tR t U g n st (I ++ E) (P ++ S) → 1 + sD S = d → L = E ++ P.map (fun o => (o, 0)) → (∀ o ∈ P, 11 < o ∧ b ≤ bnO o) → topOK b S → (¬ opO (wd g n st.1) = -1 → ∀ o ∈ P, bnO (opO (wd g n st.1)) ≤ bnO o) → exOut2 U g n t 0 b I S (morN g n G d b m L st)
  | 0, t, st, E, L, P, hm, T, _, _, _, _, _ => absurd hm (by have := T.2.2.1.2; omega)
  | m + 1, t, st, E, L, P, hm, T, hd, hL, hP, hS, hN => by
    have hw := wd_in T.1.2.2.1 T.2.2.1.1 T.2.2.1.2
    unfold morN
    by_cases c6 : (wd g n st.1).1 = 6
    · rw [if_pos c6]
      obtain ⟨w, e, hf⟩ := ct_stop T (by unfold opO; rw [if_neg (by omega)]) (.inl c6)
      rw [if_pos c6] at hf
      exact ⟨w, e, hf⟩
    rw [if_neg c6]
    by_cases c1 : opO (wd g n st.1) = -1 ∨ bnO (opO (wd g n st.1)) < b
    · rw [if_pos c1]
      exact ⟨t, E, P, rfl, T, yE.rfl, hL, hP, c6, c1⟩
    rw [if_neg c1]
    have c1' : ¬ opO (wd g n st.1) = -1 := fun z => c1 (.inl z)
    have ol := opO_lo c1'
    obtain ⟨r1, r2⟩ := rd_all (S := S) (b := bnO (opO (wd g n st.1))) (P := P) (fun o ho => ⟨(hP o ho).1, hN c1' o ho⟩) (fun o S' hS' hz => by
      rw [hS'] at hS
      have := hS.2 hz.1
      omega)
    obtain ⟨w1, e1, T1, K1⟩ := y_red (b := bnO (opO (wd g n st.1))) T
    rw [r1, r2, List.append_assoc, ← hL] at T1
    have ty := y_tally T1
    have bd : b_X39_expression_19 t U 0 1 = (m_X39_tally w1 U).bind fun q4 => if q4.2 = 0 then jinr (some (q4.1, Wz 0)) else (jst q4.1 1000 (U + 10) 2100 (jf q4.1 43 U 23) (opO (wd g n st.1))).bind fun s5 => jls (jp s5 43 U 23 (W32 ((jf s5 43 U 23) + 1))) fun s6 => (m_X39_next s6 U).bind fun q7 => u_X39_expression_193 q7.1 U 1 1 := by
      unfold b_X39_expression_19
      rw [if_neg (by decide), if_pos rfl, y_opr T, if_neg c1', Option.bind_some, if_pos (by omega), y_binds ⟨ol.2.1, ol.2.2⟩, Option.bind_some, e1, Option.bind_some]
    by_cases c3 : st.2.2.1 = 2000 ∨ st.2.2.2 = 60
    · rw [if_pos c3] at ty ⊢
      obtain ⟨w, e, hf⟩ := ty
      rw [if_neg c6] at hf
      refine ⟨w, ?_, hf.after K1⟩
      unfold exL
      refine jlpW_r ?_
      show b_X39_expression_19 t U 0 1 = _
      rw [bd, e, Option.bind_some, if_pos rfl, Wz_0]
    rw [if_neg c3] at ty ⊢
    obtain ⟨w2, e2, T2, K2, -, -, hb⟩ := ty
    obtain ⟨p1, p2, p3, T3, K3⟩ := T2.push (o := opO (wd g n st.1)) (by omega) hb
    obtain ⟨w4, z4, e4, T4, K4⟩ := T3.next c6
    have st1 : exL U t 0 = exL U w4 1 := by
      unfold exL
      refine jlpW_l ?_
      show b_X39_expression_19 t U 0 1 = _
      rw [bd, e2, Option.bind_some, if_neg (show ¬ (1 : Int) = 0 by decide), p1, Option.bind_some]
      simp only [jls]
      rw [p2, W32_in (by omega) (by omega), e4, Option.bind_some, eu_X39_expression_193]; unfold du_X39_expression_193; rfl
    have K : yE t w4 U := ((K1.trans K2).trans K3).trans K4
    have bl := bnO_lo (o := opO (wd g n st.1))
    have ih := h1 (bnO (opO (wd g n st.1)) + 1) (by omega) (by omega) w4 ((wd g n st.1).2.2.2, st.2.1, st.2.2.1 + 1, st.2.2.2 + 1) (I ++ L) (opO (wd g n st.1) :: S) T4 (by
      show 1 + ((if opO (wd g n st.1) ≤ 11 then (1 : Int) else 0) + sD S) = d
      rw [if_neg (by omega)]; omega) ⟨by omega, fun _ => by omega⟩
    have ih := ih.after st1 K
    cases hG' : G.1 ((wd g n st.1).2.2.2, st.2.1, st.2.2.1 + 1, st.2.2.2 + 1) d (bnO (opO (wd g n st.1)) + 1) with
    | inl z => rw [hG'] at ih; exact ih
    | inr z =>
      rw [hG'] at ih
      obtain ⟨w5, E2, P2, x1, T5, x3, x4, x5, x6, x7⟩ := ih
      have w7 := hw.2.2.2.1 c6
      have pz : (wd g n st.1).2.2.2 ≤ z.1.1 := hG _ _ _ z (by show 0 ≤ (wd g n st.1).2.2.2; have := T.2.2.1.1; omega) w7.2.1 hG'
      have T5' : tR w5 U g n z.1 (I ++ (L ++ E2)) ((P2 ++ [opO (wd g n st.1)]) ++ S) := by
        rw [show I ++ (L ++ E2) = I ++ L ++ E2 by simp, show P2 ++ [opO (wd g n st.1)] ++ S = P2 ++ opO (wd g n st.1) :: S by simp]; exact T5
      exact (ct_more hG b1 h1 m w5 z.1 (L ++ E2) _ (P2 ++ [opO (wd g n st.1)]) (by omega) T5' hd (by rw [x4]; simp) (fun o ho => by
        rcases List.mem_append.mp ho with q | q
        · have := x5 o q; omega
        · rw [List.mem_singleton.mp q]; omega) hS (fun no o ho => by
        have := x7.resolve_left no
        rcases List.mem_append.mp ho with q | q
        · have := x5 o q; omega
        · rw [List.mem_singleton.mp q]; omega)).after x1 x3
theorem ct_sum (b1 : 1 ≤ b) (h1 : SgT U g n G d) (h2 : ∀ (t : jS) (st : pS) (L : pI), tR t U g n st (I ++ L) S → exOut2 U g n t 0 b I S (G.2.1 L st d b)) (T : tR t U g n st I S) (hd : 1 + sD S = d) (hS : topOK b S) : exOut2 U g n t 1 b I S (sumF G st d b) := by
  unfold sumF
  have h := h1 t st I S T hd
  cases hG : G.2.2.1 st d with
  | inl z => rw [hG] at h; exact h
  | inr z =>
    rw [hG] at h
    obtain ⟨w, x1, T1, x3⟩ := h
    have e1 : unU S = [] ∧ unD S = S := by
      cases S with
      | nil => exact ⟨rfl, rfl⟩
      | cons o S' =>
        show (if o = 10 ∨ o = 11 then (o, 0) :: unU S' else []) = [] ∧ (if o = 10 ∨ o = 11 then unD S' else o :: S') = o :: S'
        rw [if_neg hS.1, if_neg hS.1]; exact ⟨rfl, rfl⟩
    rw [e1.1, e1.2, List.append_nil] at T1
    exact (h2 w z.1 z.2 T1).after x1 x3
end jTexpr6
