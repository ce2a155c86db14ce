/-! the twin's object that is made: relocation, start, clear -/
section jTmade2
variable {s t u : jS} {b O X y z lo n x r : Int} {o : Int → Int → Int → Int} {w w' d : Int → Int}
theorem t_isKind (k : Int) : (kOK k → m_X40_isKind s k = some 1) ∧ (¬ kOK k → m_X40_isKind s k = some 0) := by
  rw [em_X40_isKind]; unfold dm_X40_isKind
  simp only [em_X40_isKind, dm_X40_isKind, eu_X40_isKind_71, du_X40_isKind_71, eu_X40_isKind_59, du_X40_isKind_59, eu_X40_isKind_47, du_X40_isKind_47, eu_X40_isKind_35, du_X40_isKind_35, Wz_1, Wz_0]
  constructor <;> intro h <;> unfold kOK at h
  · have : k = 1 ∨ k = 16 ∨ k = 17 ∨ k = 19 ∨ k = 23 ∨ k = 24 ∨ k = 25 ∨ k = 26 ∨ k = 27 ∨ k = 28 ∨ k = 33 ∨ k = 34 ∨ k = 35 ∨ k = 37 ∨ k = 38 ∨ k = 39 ∨ k = 43 ∨ k = 44 ∨ k = 45 ∨ k = 51 := by omega
    rcases this with rfl | rfl | rfl | rfl | rfl | rfl | rfl | rfl | rfl | rfl | rfl | rfl | rfl | rfl | rfl | rfl | rfl | rfl | rfl | rfl <;> rfl
  · rw [if_neg (by omega), if_neg (by omega), if_neg (by omega), if_neg (by omega)]
    by_cases c1 : k < 23
    · rw [if_pos c1, if_pos (by omega), if_pos (by omega), if_pos (by omega), if_neg (by omega)]
    rw [if_neg c1, if_pos (by omega)]
    by_cases c2 : k < 33
    · rw [if_pos c2, if_pos (by omega), if_pos (by omega), if_neg (by omega)]
    rw [if_neg c2, if_pos (by omega)]
    by_cases c3 : k < 37
    · rw [if_pos c3, if_pos (by omega), if_neg (by omega)]
    rw [if_neg c3, if_pos (by omega)]
    by_cases c4 : k < 43
    · rw [if_pos c4, if_neg (by omega)]
    rw [if_neg c4, if_pos (by omega), if_neg (by omega)]
theorem t_mreloc (h : tMk s X o d) {x at' k y a : Int} (hx : jin at') (ha : jin a) : ∃ o', (rlOK o x at' k y a ∧ o' = oRel o (wRl x at' k y a) ∨ ¬ rlOK o x at' k y a ∧ o' = o) ∧ jE (m_X40_relocation s X x at' k y a) fun q => jFm s q.1 X 34 ∧ tMk q.1 X o' d := by
  obtain ⟨hO, hv, hD, hd⟩ := h
  have hN2 := hO.2.2.1.2.1
  have hN3 := hO.2.2.1.2.2
  obtain ⟨n1, n2, n3, n4, n5, n6⟩ := hv.2.2.1
  unfold jin at hx ha
  have no : ¬ rlOK o x at' k y a → ∃ o', (rlOK o x at' k y a ∧ o' = oRel o (wRl x at' k y a) ∨ ¬ rlOK o x at' k y a ∧ o' = o) ∧ jE (some (s, (-1 : Int))) fun q => jFm s q.1 X 34 ∧ tMk q.1 X o' d := fun q => ⟨o, .inr ⟨q, rfl⟩, jS_end ⟨jFm.rfl, hO, hv, hD, hd⟩⟩
  rw [em_X40_relocation]; unfold dm_X40_relocation
  rw [jlt_in (by omega) (by omega), Option.bind_some, hN3]
  by_cases c1 : o 2 2 0 = 300
  · rw [if_pos c1]; exact no fun q => by have := q.1; omega
  rw [if_neg c1]
  by_cases c2 : x < 0
  · rw [if_pos c2]; exact no fun q => by have := q.2.1; omega
  rw [if_neg c2]
  by_cases c3 : 2 < x
  · rw [if_pos c3]; exact no fun q => by have := q.2.2.1; omega
  rw [if_neg c3, em_X40_isKindOf]; unfold dm_X40_isKindOf
  by_cases c4 : ¬ kOK k
  · rw [(t_isKind k).2 c4, Option.bind_some, if_pos rfl, Wz_0, Option.bind_some, if_pos rfl]; exact no fun q => c4 q.2.2.2.1
  replace c4 := Classical.not_not.mp c4
  rw [(t_isKind k).1 c4, Option.bind_some, if_neg (by omega), Wz_1, Wz_0]
  by_cases c5 : ¬ (x = 0 ∨ k = 1 ∨ 33 ≤ k ∧ k ≤ 39)
  · have e : (if x = 0 then some (1 : Int) else if k = 1 then some 1 else if k < 33 then some 0 else if 39 < k then some 0 else some 1) = some 0 := by
      rw [if_neg (by omega), if_neg (by omega)]
      by_cases c : k < 33
      · rw [if_pos c]
      · rw [if_neg c, if_pos (by omega)]
    rw [e, Option.bind_some, if_pos rfl]; exact no fun q => c5 q.2.2.2.2.1
  replace c5 := Decidable.not_not.mp c5
  have e : (if x = 0 then some (1 : Int) else if k = 1 then some 1 else if k < 33 then some 0 else if 39 < k then some 0 else some 1) = some 1 := by
    by_cases q1 : x = 0
    · rw [if_pos q1]
    rw [if_neg q1]
    by_cases q2 : k = 1
    · rw [if_pos q2]
    rw [if_neg q2, if_neg (by omega), if_neg (by omega)]
  rw [e, Option.bind_some, if_neg (by omega)]
  by_cases c6 : y < -1
  · rw [if_pos c6]; exact no fun q => by
      have := q.2.2.2.2.2.2.2
      split at this <;> omega
  rw [if_neg c6, jlt_in (by omega) (by omega), Option.bind_some, hN2]
  by_cases c7 : ¬ y < o 2 1 0
  · rw [if_neg c7]; exact no fun q => by
      have := q.2.2.2.2.2.2.2
      split at this <;> omega
  replace c7 := Decidable.not_not.mp c7
  rw [if_pos c7, e_X40_isAlone, Option.bind_some]
  -- the last ones
  have e67 : (if y = -1 then u_X40_relocation_67 s X x at' k y a (o 2 2 0) 1 (if k = 43 ∨ k = 51 then 1 else 0) else u_X40_relocation_67 s X x at' k y a (o 2 2 0) 0 (if k = 43 ∨ k = 51 then 1 else 0)) = u_X40_relocation_67 s X x at' k y a (o 2 2 0) (if y = -1 then 1 else 0) (if k = 43 ∨ k = 51 then 1 else 0) := by split <;> rfl
  rw [e67, eu_X40_relocation_67]; unfold du_X40_relocation_67
  by_cases c8 : ¬ (if k = 43 ∨ k = 51 then y = -1 else 0 ≤ y ∧ y < o 2 1 0)
  · have : ¬ (if k = 43 ∨ k = 51 then (1 : Int) else 0) = (if y = -1 then 1 else 0) := by
      by_cases q1 : k = 43 ∨ k = 51
      · rw [if_pos q1] at c8 ⊢
        rw [if_neg c8]; omega
      · rw [if_neg q1] at c8 ⊢
        rw [if_pos (by omega)]; omega
    rw [if_neg this]; exact no fun q => c8 q.2.2.2.2.2.2.2
  replace c8 := Classical.not_not.mp c8
  have : (if k = 43 ∨ k = 51 then (1 : Int) else 0) = (if y = -1 then 1 else 0) := by
    by_cases q1 : k = 43 ∨ k = 51
    · rw [if_pos q1] at c8 ⊢
      rw [if_pos c8]
    · rw [if_neg q1] at c8 ⊢
      rw [if_neg (by omega)]
  rw [if_pos this]
  -- the row
  have fin : (k = 43 → 0 ≤ a ∧ a ≤ 62 ∧ a % 2 = 0) → ∃ o', (rlOK o x at' k y a ∧ o' = oRel o (wRl x at' k y a) ∨ ¬ rlOK o x at' k y a ∧ o' = o) ∧ jE (u_X40_relocation_85 s X x at' k y a (o 2 2 0)) fun q => jFm s q.1 X 34 ∧ tMk q.1 X o' d := by
    intro c9
    rw [eu_X40_relocation_85]; unfold du_X40_relocation_85
    by_cases c10 : at' < 0
    · rw [if_pos c10]; exact no fun q => by have := q.2.2.2.2.2.1; omega
    rw [if_neg c10]
    have ok : rlOK o x at' k y a := ⟨by omega, by omega, by omega, c4, c5, by omega, c9, c8⟩
    refine ⟨_, .inl ⟨ok, rfl⟩, ?_⟩
    (repeat (first | with_reducible refine jS_pos (by omega) ?_ | with_reducible refine jS_neg (by omega) ?_ | with_reducible refine jS_posB (by omega) ?_ | with_reducible refine jS_negB (by omega) ?_ | with_reducible refine jS_some ?_ | with_reducible refine jS_ls ?_ | with_reducible refine jS_let ?_ | with_reducible refine jS_lt (by omega) (by omega) ?_ | with_reducible refine jS_st (by omega) (by omega) ?_ | with_reducible refine jS_ix (by omega) (by omega) ?_ | with_reducible refine jS_dv (by omega) ?_ | with_reducible refine jS_zb (by omega) ?_ | with_reducible refine jS_bb ?_ | with_reducible refine jS_inr ?_ | with_reducible refine jS_lsB ?_ | with_reducible refine jS_letB ?_ | with_reducible refine jS_ck0 (by omega) ?_ | with_reducible refine jS_ck0B (by omega) ?_ | rw [W32_in (by omega) (by omega)] | rw [W32_aL] | rw [W32_aR] | rw [W32_sL] | rw [W32_mR] | rw [jf_neg (by omega)] | rw [jf_pos (by omega)] | with_reducible refine jS_bb ?_))
    rw [hN3]
    (repeat (first | with_reducible refine jS_pos (by omega) ?_ | with_reducible refine jS_neg (by omega) ?_ | with_reducible refine jS_posB (by omega) ?_ | with_reducible refine jS_negB (by omega) ?_ | with_reducible refine jS_some ?_ | with_reducible refine jS_ls ?_ | with_reducible refine jS_let ?_ | with_reducible refine jS_lt (by omega) (by omega) ?_ | with_reducible refine jS_st (by omega) (by omega) ?_ | with_reducible refine jS_ix (by omega) (by omega) ?_ | with_reducible refine jS_dv (by omega) ?_ | with_reducible refine jS_zb (by omega) ?_ | with_reducible refine jS_bb ?_ | with_reducible refine jS_inr ?_ | with_reducible refine jS_lsB ?_ | with_reducible refine jS_letB ?_ | with_reducible refine jS_ck0 (by omega) ?_ | with_reducible refine jS_ck0B (by omega) ?_ | rw [W32_in (by omega) (by omega)] | rw [W32_aL] | rw [W32_aR] | rw [W32_sL] | rw [W32_mR] | rw [jf_neg (by omega)] | rw [jf_pos (by omega)] | with_reducible refine jS_bb ?_))
    generalize hs4 : jp (jp (jp (jp (jp (jp s 1000 (X + 14) (o 2 2 0) x) 1000 (X + 15) (o 2 2 0) at') 1000 (X + 16) (o 2 2 0) k) 1000 (X + 17) (o 2 2 0) y) 1000 (X + 18) (o 2 2 0) a) 1000 (X + 19) 0 (o 2 2 0 + 1) = s4
    have G : jFm s s4 X 34 := by rw [← hs4]; (repeat' (first | exact jFm.rfl | refine jFm.jp ?_ (by omega) (by omega)))
    have f : ∀ a k, ¬ (X + 14 ≤ a ∧ a < X + 19 ∧ k = o 2 2 0) → ¬ (a = X + 19 ∧ k = 0) → jf s4 1000 a k = jf s 1000 a k := fun a k q1 q2 => by rw [← hs4]; (repeat (first | rw [jf_neg (by omega)] | rw [jf_pos (by omega)] | rw [ou_neg (by omega)] | rw [ou_pos (by omega)]))
    obtain ⟨hA, hB, hN, hT, hY, hR⟩ := hO
    refine jS_end ⟨G, ⟨fun x x0 x1 => ?_, fun x k x0 x1 k0 k1 => ?_, ⟨?_, ?_, ?_⟩, fun k k0 k1 => ?_, fun k k0 k1 => ?_, fun j j0 j1 => ?_⟩, vRel hv (by omega) (ok.v (by omega) ha n3), ⟨by rw [← hs4]; (repeat (first | rw [jf_neg (by omega)] | rw [jf_pos (by omega)] | rw [ou_neg (by omega)] | rw [ou_pos (by omega)])); exact hD.1, fun i i0 i1 => by rw [f _ _ (by omega) (by omega)]; exact hD.2 i i0 i1⟩, hd⟩
    · rw [f _ _ (by omega) (by omega), f _ _ (by omega) (by omega), oRel_o (by omega) (by omega)]; exact hA x x0 x1
    · rw [oRel_o (by omega) (by omega)] at k1
      rw [f _ _ (by omega) (by omega), oRel_o (by omega) (by omega)]; exact hB x k x0 x1 k0 k1
    · rw [f _ _ (by omega) (by omega), oRel_o (by omega) (by omega)]; exact hN.1
    · rw [f _ _ (by omega) (by omega), oRel_o (by omega) (by omega)]; exact hN.2.1
    · rw [oRel_n, ← hs4]; (repeat (first | rw [jf_neg (by omega)] | rw [jf_pos (by omega)] | rw [ou_neg (by omega)] | rw [ou_pos (by omega)]))
    · rw [oRel_o (by omega) (by omega)] at k1
      rw [f _ _ (by omega) (by omega), oRel_o (by omega) (by omega)]; exact hT k k0 k1
    · rw [oRel_o (by omega) (by omega)] at k1
      rw [oRel_o (by omega) (by omega)]
      exact (hY k k0 k1).keep (hv.2.2.2.2.1 k k0 k1).2.2.2.2.2.2.2.2.2.1 (fun _ _ _ => f _ _ (by omega) (by omega)) (fun _ _ _ => f _ _ (by omega) (by omega))
    · rw [oRel_n] at j1
      by_cases ek : j = o 2 2 0
      · subst ek
        rw [oRel_5, show 300 * (0 : Int) + o 2 2 0 = o 2 2 0 by omega]
        refine ⟨?_, ?_, ?_, ?_, ?_⟩
        · rw [← hs4]; (repeat (first | rw [jf_neg (by omega)] | rw [jf_pos (by omega)] | rw [ou_neg (by omega)] | rw [ou_pos (by omega)])); rfl
        · rw [← hs4]; (repeat (first | rw [jf_neg (by omega)] | rw [jf_pos (by omega)] | rw [ou_neg (by omega)] | rw [ou_pos (by omega)])); rfl
        · rw [← hs4]; (repeat (first | rw [jf_neg (by omega)] | rw [jf_pos (by omega)] | rw [ou_neg (by omega)] | rw [ou_pos (by omega)])); rfl
        · rw [← hs4]; (repeat (first | rw [jf_neg (by omega)] | rw [jf_pos (by omega)] | rw [ou_neg (by omega)] | rw [ou_pos (by omega)])); rfl
        · rw [← hs4]; (repeat (first | rw [jf_neg (by omega)] | rw [jf_pos (by omega)] | rw [ou_neg (by omega)] | rw [ou_pos (by omega)])); rfl
      · rw [oRel_o (by omega) (by omega)]
        exact (hR j j0 (by omega)).keep (fun _ _ _ => f _ _ (by omega) (by omega))
  by_cases c9 : k = 43
  · rw [if_pos c9, e_X40_isSkip, Option.bind_some]
    have hi : L_rem a 2 = 0 ↔ a % 2 = 0 := L_rem_0 (by omega) (by omega) (by omega)
    by_cases c10 : 0 ≤ a ∧ a ≤ 62 ∧ a % 2 = 0
    · rw [if_neg (by omega)]; exact fin fun _ => c10
    · rw [if_pos (by omega)]; exact no fun q => c10 (q.2.2.2.2.2.2.1 c9)
  · rw [if_neg c9]; exact fin fun q => absurd q c9
theorem t_mstart (h : tMk s X o d) (hx : jin x) : ∃ o', (stOK o x ∧ o' = oStart o x ∨ ¬ stOK o x ∧ o' = o) ∧ jE (m_X40_start s X x) fun q => jFm s q.1 X 34 ∧ tMk q.1 X o' d := by
  obtain ⟨hO, hv, hD, hd⟩ := h
  have hN1 := hO.2.2.1.1
  obtain ⟨n1, n2, n3, n4, n5, n6⟩ := hv.2.2.1
  unfold jin at hx
  have hi : I_rem x 2 = 0 ↔ x % 2 = 0 := I_rem_0 ⟨hx.1, hx.2⟩ (by omega) (by omega)
  have no : ¬ stOK o x → ∃ o', (stOK o x ∧ o' = oStart o x ∨ ¬ stOK o x ∧ o' = o) ∧ jE (some (s, Wz 0)) fun q => jFm s q.1 X 34 ∧ tMk q.1 X o' d := fun q => ⟨o, .inr ⟨q, rfl⟩, jS_end ⟨jFm.rfl, hO, hv, hD, hd⟩⟩
  rw [em_X40_start]; unfold dm_X40_start
  rw [jlt_in (by omega) (by omega), Option.bind_some, hN1]
  by_cases c1 : x < 0
  · rw [if_pos c1]; exact no fun q => by have := q.2.1; omega
  rw [if_neg c1]
  by_cases c2 : 2046 < x
  · rw [if_pos c2]; exact no fun q => by have := q.2.2.1; omega
  rw [if_neg c2, jdv_in (by omega), Option.bind_some]
  by_cases c3 : ¬ I_rem x 2 = 0
  · rw [if_neg c3]; exact no fun q => by have := q.2.2.2.1; omega
  replace c3 := Decidable.not_not.mp c3
  rw [if_pos c3]
  by_cases c4 : o 2 0 0 = 1024
  · rw [if_pos c4]; exact no fun q => q.1 c4
  rw [if_neg c4]
  have yes : stOK o x → ∃ o', (stOK o x ∧ o' = oStart o x ∨ ¬ stOK o x ∧ o' = o) ∧ jE (u_X40_start_49 s X x (o 2 0 0)) fun q => jFm s q.1 X 34 ∧ tMk q.1 X o' d := by
    intro ok
    refine ⟨_, .inl ⟨ok, rfl⟩, ?_⟩
    rw [eu_X40_start_49]; unfold du_X40_start_49
    (repeat (first | with_reducible refine jS_pos (by omega) ?_ | with_reducible refine jS_neg (by omega) ?_ | with_reducible refine jS_posB (by omega) ?_ | with_reducible refine jS_negB (by omega) ?_ | with_reducible refine jS_some ?_ | with_reducible refine jS_ls ?_ | with_reducible refine jS_let ?_ | with_reducible refine jS_lt (by omega) (by omega) ?_ | with_reducible refine jS_st (by omega) (by omega) ?_ | with_reducible refine jS_ix (by omega) (by omega) ?_ | with_reducible refine jS_dv (by omega) ?_ | with_reducible refine jS_zb (by omega) ?_ | with_reducible refine jS_bb ?_ | with_reducible refine jS_inr ?_ | with_reducible refine jS_lsB ?_ | with_reducible refine jS_letB ?_ | with_reducible refine jS_ck0 (by omega) ?_ | with_reducible refine jS_ck0B (by omega) ?_ | rw [W32_in (by omega) (by omega)] | rw [W32_aL] | rw [W32_aR] | rw [W32_sL] | rw [W32_mR] | rw [jf_neg (by omega)] | rw [jf_pos (by omega)] | with_reducible refine jS_bb ?_))
    rw [hN1]
    (repeat (first | with_reducible refine jS_pos (by omega) ?_ | with_reducible refine jS_neg (by omega) ?_ | with_reducible refine jS_posB (by omega) ?_ | with_reducible refine jS_negB (by omega) ?_ | with_reducible refine jS_some ?_ | with_reducible refine jS_ls ?_ | with_reducible refine jS_let ?_ | with_reducible refine jS_lt (by omega) (by omega) ?_ | with_reducible refine jS_st (by omega) (by omega) ?_ | with_reducible refine jS_ix (by omega) (by omega) ?_ | with_reducible refine jS_dv (by omega) ?_ | with_reducible refine jS_zb (by omega) ?_ | with_reducible refine jS_bb ?_ | with_reducible refine jS_inr ?_ | with_reducible refine jS_lsB ?_ | with_reducible refine jS_letB ?_ | with_reducible refine jS_ck0 (by omega) ?_ | with_reducible refine jS_ck0B (by omega) ?_ | rw [W32_in (by omega) (by omega)] | rw [W32_aL] | rw [W32_aR] | rw [W32_sL] | rw [W32_mR] | rw [jf_neg (by omega)] | rw [jf_pos (by omega)] | with_reducible refine jS_bb ?_))
    have nv : ∀ c a, ¬ (c = 3 ∧ a = o 2 0 0) → ¬ (c = 2 ∧ a = 0) → oStart o x c a = o c a := fun c a e e' => by unfold oStart; rw [ou_row e', ou_row e]
    generalize hs4 : jp (jp s 1000 (X + 4) (o 2 0 0) x) 1000 (X + 5) 0 (o 2 0 0 + 1) = s4
    have G : jFm s s4 X 34 := by rw [← hs4]; (repeat' (first | exact jFm.rfl | refine jFm.jp ?_ (by omega) (by omega)))
    have f : ∀ a k, ¬ (a = X + 4 ∧ k = o 2 0 0) → ¬ (a = X + 5 ∧ k = 0) → jf s4 1000 a k = jf s 1000 a k := fun a k q1 q2 => by rw [← hs4]; (repeat (first | rw [jf_neg (by omega)] | rw [jf_pos (by omega)] | rw [ou_neg (by omega)] | rw [ou_pos (by omega)]))
    obtain ⟨hA, hB, hN, hT, hY, hR⟩ := hO
    refine jS_end ⟨G, ⟨fun x x0 x1 => ?_, fun x k x0 x1 k0 k1 => ?_, ⟨?_, ?_, ?_⟩, fun k k0 k1 => ?_, fun k k0 k1 => ?_, fun j j0 j1 => ?_⟩, vStart hv ok, ⟨by rw [← hs4]; (repeat (first | rw [jf_neg (by omega)] | rw [jf_pos (by omega)] | rw [ou_neg (by omega)] | rw [ou_pos (by omega)])); exact hD.1, fun i i0 i1 => by rw [f _ _ (by omega) (by omega)]; exact hD.2 i i0 i1⟩, hd⟩
    · rw [f _ _ (by omega) (by omega), f _ _ (by omega) (by omega), nv _ _ (by omega) (by omega)]; exact hA x x0 x1
    · rw [nv _ _ (by omega) (by omega)] at k1
      rw [f _ _ (by omega) (by omega), nv _ _ (by omega) (by omega)]; exact hB x k x0 x1 k0 k1
    · rw [← hs4]; unfold oStart; (repeat (first | rw [jf_neg (by omega)] | rw [jf_pos (by omega)] | rw [ou_neg (by omega)] | rw [ou_pos (by omega)]))
    · rw [f _ _ (by omega) (by omega), nv _ _ (by omega) (by omega)]; exact hN.2.1
    · rw [f _ _ (by omega) (by omega), nv _ _ (by omega) (by omega)]; exact hN.2.2
    · have e1 : oStart o x 2 0 0 = o 2 0 0 + 1 := by unfold oStart; (repeat (first | rw [jf_neg (by omega)] | rw [jf_pos (by omega)] | rw [ou_neg (by omega)] | rw [ou_pos (by omega)]))
      rw [e1] at k1
      by_cases ek : k = o 2 0 0
      · rw [← hs4]; unfold oStart; (repeat (first | rw [jf_neg (by omega)] | rw [jf_pos (by omega)] | rw [ou_neg (by omega)] | rw [ou_pos (by omega)]))
      · rw [f _ _ (by omega) (by omega), nv _ _ (by omega) (by omega)]; exact hT k k0 (by omega)
    · rw [nv _ _ (by omega) (by omega)] at k1
      rw [nv _ _ (by omega) (by omega)]
      exact (hY k k0 k1).keep (hv.2.2.2.2.1 k k0 k1).2.2.2.2.2.2.2.2.2.1 (fun _ _ _ => f _ _ (by omega) (by omega)) (fun _ _ _ => f _ _ (by omega) (by omega))
    · rw [nv _ _ (by omega) (by omega)] at j1
      rw [nv _ _ (by omega) (by omega)]
      exact (hR j j0 j1).keep (fun _ _ _ => f _ _ (by omega) (by omega))
  by_cases c5 : 0 < o 2 0 0
  · rw [if_pos c5, W32_in (by omega) (by omega), jlt_in (by omega) (by omega), Option.bind_some]
    have c6 := hO.2.2.2.1 (o 2 0 0 - 1) (by omega) (by omega)
    rw [show 1024 * (0 : Int) + (o 2 0 0 - 1) = o 2 0 0 - 1 by omega] at c6
    rw [c6]
    by_cases c7 : o 3 (o 2 0 0 - 1) 0 < x
    · rw [if_pos c7]; exact yes ⟨c4, by omega, by omega, by omega, fun _ => c7⟩
    · rw [if_neg c7]; exact no fun q => c7 (q.2.2.2.2 c5)
  · rw [if_neg c5]; exact yes ⟨c4, by omega, by omega, by omega, fun q => absurd q c5⟩
theorem t_mclear : jE (m_X40_clear s X) fun q => jFm s q.1 X 34 ∧ tMk q.1 X oNew dNew := by
  rw [em_X40_clear]; unfold dm_X40_clear
  rw [eu_X40_clear_2]; unfold du_X40_clear_2
  refine jS_for (fun k u => jFm s u X 34 ∧ ∀ x, 0 ≤ x → x < k → jf u 1000 (X + 2) x = 0 ∧ jf u 1000 (X + 3) x = 1) (fun k => [X, k]) 0 4 (by omega) ⟨jFm.rfl, fun x x0 x1 => by omega⟩ (fun k u k0 k1 ⟨g, e⟩ => ?_) (fun u ⟨g, e⟩ => ?_)
  · show jE (b_X40_clear_2 u X k) _
    unfold b_X40_clear_2
    (repeat (first | with_reducible refine jS_pos (by omega) ?_ | with_reducible refine jS_neg (by omega) ?_ | with_reducible refine jS_posB (by omega) ?_ | with_reducible refine jS_negB (by omega) ?_ | with_reducible refine jS_some ?_ | with_reducible refine jS_ls ?_ | with_reducible refine jS_let ?_ | with_reducible refine jS_lt (by omega) (by omega) ?_ | with_reducible refine jS_st (by omega) (by omega) ?_ | with_reducible refine jS_ix (by omega) (by omega) ?_ | with_reducible refine jS_dv (by omega) ?_ | with_reducible refine jS_zb (by omega) ?_ | with_reducible refine jS_bb ?_ | with_reducible refine jS_inr ?_ | with_reducible refine jS_lsB ?_ | with_reducible refine jS_letB ?_ | with_reducible refine jS_ck0 (by omega) ?_ | with_reducible refine jS_ck0B (by omega) ?_ | rw [W32_in (by omega) (by omega)] | rw [W32_aL] | rw [W32_aR] | rw [W32_sL] | rw [W32_mR] | rw [jf_neg (by omega)] | rw [jf_pos (by omega)] | with_reducible refine jS_bb ?_))
    refine jS_end ⟨rfl, (g.jp (by omega) (by omega)).jp (by omega) (by omega), fun x x0 x1 => ?_⟩
    by_cases c : x = k
    · subst c; (repeat (first | rw [jf_neg (by omega)] | rw [jf_pos (by omega)] | rw [ou_neg (by omega)] | rw [ou_pos (by omega)])); exact ⟨rfl, rfl⟩
    · (repeat (first | rw [jf_neg (by omega)] | rw [jf_pos (by omega)] | rw [ou_neg (by omega)] | rw [ou_pos (by omega)])); exact e x x0 (by omega)
  · show jE (b_X40_clear_2 u X 4) _
    unfold b_X40_clear_2
    (repeat (first | with_reducible refine jS_pos (by omega) ?_ | with_reducible refine jS_neg (by omega) ?_ | with_reducible refine jS_posB (by omega) ?_ | with_reducible refine jS_negB (by omega) ?_ | with_reducible refine jS_some ?_ | with_reducible refine jS_ls ?_ | with_reducible refine jS_let ?_ | with_reducible refine jS_lt (by omega) (by omega) ?_ | with_reducible refine jS_st (by omega) (by omega) ?_ | with_reducible refine jS_ix (by omega) (by omega) ?_ | with_reducible refine jS_dv (by omega) ?_ | with_reducible refine jS_zb (by omega) ?_ | with_reducible refine jS_bb ?_ | with_reducible refine jS_inr ?_ | with_reducible refine jS_lsB ?_ | with_reducible refine jS_letB ?_ | with_reducible refine jS_ck0 (by omega) ?_ | with_reducible refine jS_ck0B (by omega) ?_ | rw [W32_in (by omega) (by omega)] | rw [W32_aL] | rw [W32_aR] | rw [W32_sL] | rw [W32_mR] | rw [jf_neg (by omega)] | rw [jf_pos (by omega)] | with_reducible refine jS_bb ?_))
    simp only [em_X40_clear, dm_X40_clear, eu_X40_clear_27, du_X40_clear_27]
    (repeat (first | with_reducible refine jS_pos (by omega) ?_ | with_reducible refine jS_neg (by omega) ?_ | with_reducible refine jS_posB (by omega) ?_ | with_reducible refine jS_negB (by omega) ?_ | with_reducible refine jS_some ?_ | with_reducible refine jS_ls ?_ | with_reducible refine jS_let ?_ | with_reducible refine jS_lt (by omega) (by omega) ?_ | with_reducible refine jS_st (by omega) (by omega) ?_ | with_reducible refine jS_ix (by omega) (by omega) ?_ | with_reducible refine jS_dv (by omega) ?_ | with_reducible refine jS_zb (by omega) ?_ | with_reducible refine jS_bb ?_ | with_reducible refine jS_inr ?_ | with_reducible refine jS_lsB ?_ | with_reducible refine jS_letB ?_ | with_reducible refine jS_ck0 (by omega) ?_ | with_reducible refine jS_ck0B (by omega) ?_ | rw [W32_in (by omega) (by omega)] | rw [W32_aL] | rw [W32_aR] | rw [W32_sL] | rw [W32_mR] | rw [jf_neg (by omega)] | rw [jf_pos (by omega)] | with_reducible refine jS_bb ?_))
    have z1 : ∀ x, oNew 1 x 0 = 0 := fun _ => rfl
    have z2 : ∀ x, oNew 2 x 0 = 0 := fun _ => rfl
    refine jS_end ⟨(((g.jp (by omega) (by omega)).jp (by omega) (by omega)).jp (by omega) (by omega)).jp (by omega) (by omega), ⟨fun x x0 x1 => ?_, fun x k x0 x1 k0 k1 => ?_, ⟨?_, ?_, ?_⟩, fun k k0 k1 => ?_, fun k k0 k1 => ?_, fun k k0 k1 => ?_⟩, vNew, ⟨?_, fun i i0 i1 => ?_⟩, vdNew⟩
    · have := e x x0 x1
      rw [show 4 * (0 : Int) + x = x by omega]
      (repeat (first | rw [jf_neg (by omega)] | rw [jf_pos (by omega)] | rw [ou_neg (by omega)] | rw [ou_pos (by omega)])); exact this
    · rw [z1] at k1; omega
    · (repeat (first | rw [jf_neg (by omega)] | rw [jf_pos (by omega)] | rw [ou_neg (by omega)] | rw [ou_pos (by omega)])); rfl
    · (repeat (first | rw [jf_neg (by omega)] | rw [jf_pos (by omega)] | rw [ou_neg (by omega)] | rw [ou_pos (by omega)])); rfl
    · (repeat (first | rw [jf_neg (by omega)] | rw [jf_pos (by omega)] | rw [ou_neg (by omega)] | rw [ou_pos (by omega)])); rfl
    · rw [z2] at k1; omega
    · rw [z2] at k1; omega
    · rw [z2] at k1; omega
    · (repeat (first | rw [jf_neg (by omega)] | rw [jf_pos (by omega)] | rw [ou_neg (by omega)] | rw [ou_pos (by omega)])); rfl
    · have : dNew 5 = 0 := rfl
      omega
end jTmade2
