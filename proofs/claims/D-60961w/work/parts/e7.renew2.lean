/-! the twin's machine is renewed; both -/
section jRenew2
variable {s t u : jS} {C T M U O X n x k w a v : Int}
def rnT (t q : jS) (U : Int) : Prop := jFm t q U 13 ∧ ∀ c a k, ¬ (c = 1000 ∧ (a = U + 3 ∨ a = U + 5 ∨ a = U + 6 ∨ a = U + 7 ∨ a = U + 9)) → ¬ (c = 1002 ∧ a = U + 4) → ¬ (c = 47 ∧ a = U ∧ ¬ k = 24) → jf q c a k = jf t c a k
theorem rnT.rfl : rnT t t U := ⟨jFm.rfl, fun _ _ _ _ _ _ => Eq.refl _⟩
theorem rnT.jp {c a j : Int} (h : rnT t u U) (h' : c = 1000 ∧ (a = U + 3 ∨ a = U + 5 ∨ a = U + 6 ∨ a = U + 7 ∨ a = U + 9) ∨ c = 1002 ∧ a = U + 4 ∨ c = 47 ∧ a = U ∧ ¬ j = 24) : rnT t (jp u c a j v) U := ⟨h.1.jp (by omega) (by omega), fun c' a' k' h1 h2 h3 => by
  rw [jf_jp, if_neg (fun z => by obtain ⟨z1, z2, z3⟩ := z; subst z1 z2 z3; rcases h' with w | w | w; exact h1 w; exact h2 w; exact h3 w)]; exact h.2 c' a' k' h1 h2 h3⟩
theorem T_renew (hU : U = T + 130) : jE (m_X37_renew t T) fun r => rnT t r.1 U ∧ (∀ k, 0 ≤ k → k < 131072 → jf r.1 1000 (U + 3) k = 0) ∧ (∀ k, 0 ≤ k → k < 65536 → jf r.1 1002 (U + 4) k = 0) ∧ (∀ k, 0 ≤ k → k < 8 → jf r.1 1000 (U + 5) k = 0 ∧ jf r.1 1000 (U + 6) k = 0 ∧ jf r.1 1000 (U + 7) k = 0) ∧ (∀ k, 0 ≤ k → k < 32 → jf r.1 1000 (U + 9) k = 0) ∧ ∀ k, k = 7 ∨ k = 9 ∨ k = 11 ∨ k = 13 ∨ k = 14 ∨ 16 ≤ k ∧ k ≤ 21 ∨ k = 23 → jf r.1 47 U k = 0 := by
  rw [em_X37_renew]; unfold dm_X37_renew
  rw [eu_X37_renew_2]; unfold du_X37_renew_2
  refine jS_for (fun k u => rnT t u U ∧ ∀ j, 0 ≤ j → j < k → jf u 1000 (U + 3) j = 0) (fun k => [T, k]) 0 131072 (by omega) ⟨rnT.rfl, fun j j0 j1 => by omega⟩ (fun k u k0 k1 ⟨e1, e2⟩ => ?_) (fun u ⟨e1, e2⟩ => ?_)
  · show jE (b_X37_renew_2 u T k) _
    unfold b_X37_renew_2
    rw [if_pos k1, ← hU, jst_in k0 k1, Option.bind_some, W32_in (by omega) (by omega)]
    refine jS_end ⟨rfl, e1.jp (by omega), fun j j0 j1 => ?_⟩
    by_cases c : j = k
    · subst c; exact jf_pos ⟨rfl, rfl, rfl⟩
    · rw [jf_neg (by omega)]; exact e2 j j0 (by omega)
  show jE (b_X37_renew_2 u T 131072) _
  unfold b_X37_renew_2
  rw [if_neg (by omega)]
  refine jS_inr ?_
  rw [eu_X37_renew_25]; unfold du_X37_renew_25
  rw [eu_X37_renew_27]; unfold du_X37_renew_27
  refine jS_for (fun k u => rnT t u U ∧ (∀ j, 0 ≤ j → j < 131072 → jf u 1000 (U + 3) j = 0) ∧ ∀ j, 0 ≤ j → j < k → jf u 1002 (U + 4) j = 0) (fun k => [T, k]) 0 65536 (by omega) ⟨e1, e2, fun j j0 j1 => by omega⟩ (fun k u k0 k1 ⟨e1, e2, e3⟩ => ?_) (fun u ⟨e1, e2, e3⟩ => ?_)
  · show jE (b_X37_renew_27 u T k) _
    unfold b_X37_renew_27
    rw [if_pos k1, ← hU, jst_in k0 k1, Option.bind_some, W32_in (by omega) (by omega), Wz_0]
    refine jS_end ⟨rfl, e1.jp (by omega), fun j j0 j1 => by (repeat (first | rw [jf_neg (by omega)] | rw [jf_pos (by omega)] | rw [ou_neg (by omega)] | rw [ou_pos (by omega)])); exact e2 j j0 j1, fun j j0 j1 => ?_⟩
    by_cases c : j = k
    · subst c; exact jf_pos ⟨rfl, rfl, rfl⟩
    · rw [jf_neg (by omega)]; exact e3 j j0 (by omega)
  show jE (b_X37_renew_27 u T 65536) _
  unfold b_X37_renew_27
  rw [if_neg (by omega)]
  refine jS_inr ?_
  rw [eu_X37_renew_50]; unfold du_X37_renew_50
  rw [eu_X37_renew_52]; unfold du_X37_renew_52
  refine jS_for (fun k u => rnT t u U ∧ (∀ j, 0 ≤ j → j < 131072 → jf u 1000 (U + 3) j = 0) ∧ (∀ j, 0 ≤ j → j < 65536 → jf u 1002 (U + 4) j = 0) ∧ ∀ j, 0 ≤ j → j < k → jf u 1000 (U + 5) j = 0 ∧ jf u 1000 (U + 6) j = 0 ∧ jf u 1000 (U + 7) j = 0) (fun k => [T, k]) 0 8 (by omega) ⟨e1, e2, e3, fun j j0 j1 => by omega⟩ (fun k u k0 k1 ⟨e1, e2, e3, e4⟩ => ?_) (fun u ⟨e1, e2, e3, e4⟩ => ?_)
  · show jE (b_X37_renew_52 u T k) _
    unfold b_X37_renew_52
    rw [if_pos k1, ← hU, em_X43_segment]; unfold dm_X43_segment
    rw [if_neg (show ¬ k < 0 by omega), if_neg (show ¬ 7 < k by omega), if_neg (show ¬ (0 : Int) < 0 by omega), if_neg (show ¬ (0 : Int) < 0 by omega), W64_in (by omega) (by omega), if_neg (by rw [L_cmp_gt]; decide), if_neg (show ¬ (0 : Int) < 0 by omega), if_neg (show ¬ (7 : Int) < 0 by omega), jst_in k0 k1, Option.bind_some, jst_in k0 k1, Option.bind_some, jst_in k0 k1, Option.bind_some, em_X43_forget]; unfold dm_X43_forget
    simp only [jls, Option.bind_some]
    rw [W32_in (by omega) (by omega)]
    refine jS_end ⟨rfl, (((e1.jp (by omega)).jp (by omega)).jp (by omega)).jp (by omega), fun j j0 j1 => by (repeat (first | rw [jf_neg (by omega)] | rw [jf_pos (by omega)] | rw [ou_neg (by omega)] | rw [ou_pos (by omega)])); exact e2 j j0 j1, fun j j0 j1 => by (repeat (first | rw [jf_neg (by omega)] | rw [jf_pos (by omega)] | rw [ou_neg (by omega)] | rw [ou_pos (by omega)])); exact e3 j j0 j1, fun j j0 j1 => ?_⟩
    by_cases c : j = k
    · subst c; refine ⟨?_, ?_, ?_⟩ <;> (repeat (first | rw [jf_neg (by omega)] | rw [jf_pos (by omega)] | rw [ou_neg (by omega)] | rw [ou_pos (by omega)]))
    · have := e4 j j0 (by omega); refine ⟨?_, ?_, ?_⟩ <;> (repeat (first | rw [jf_neg (by omega)] | rw [jf_pos (by omega)] | rw [ou_neg (by omega)] | rw [ou_pos (by omega)])) <;> omega
  show jE (b_X37_renew_52 u T 8) _
  unfold b_X37_renew_52
  rw [if_neg (by omega)]
  refine jS_inr ?_
  rw [eu_X37_renew_76]; unfold du_X37_renew_76
  rw [eu_X37_renew_78]; unfold du_X37_renew_78
  refine jS_for (fun k u => rnT t u U ∧ (∀ j, 0 ≤ j → j < 131072 → jf u 1000 (U + 3) j = 0) ∧ (∀ j, 0 ≤ j → j < 65536 → jf u 1002 (U + 4) j = 0) ∧ (∀ j, 0 ≤ j → j < 8 → jf u 1000 (U + 5) j = 0 ∧ jf u 1000 (U + 6) j = 0 ∧ jf u 1000 (U + 7) j = 0) ∧ ∀ j, 0 ≤ j → j < k → jf u 1000 (U + 9) j = 0) (fun k => [T, k]) 0 32 (by omega) ⟨e1, e2, e3, e4, fun j j0 j1 => by omega⟩ (fun k u k0 k1 ⟨e1, e2, e3, e4, e5⟩ => ?_) (fun u ⟨e1, e2, e3, e4, e5⟩ => ?_)
  · show jE (b_X37_renew_78 u T k) _
    unfold b_X37_renew_78
    rw [if_pos k1, ← hU, jst_in k0 k1, Option.bind_some, W32_in (by omega) (by omega)]
    refine jS_end ⟨rfl, e1.jp (by omega), fun j j0 j1 => by (repeat (first | rw [jf_neg (by omega)] | rw [jf_pos (by omega)] | rw [ou_neg (by omega)] | rw [ou_pos (by omega)])); exact e2 j j0 j1, fun j j0 j1 => by (repeat (first | rw [jf_neg (by omega)] | rw [jf_pos (by omega)] | rw [ou_neg (by omega)] | rw [ou_pos (by omega)])); exact e3 j j0 j1, fun j j0 j1 => by (repeat (first | rw [jf_neg (by omega)] | rw [jf_pos (by omega)] | rw [ou_neg (by omega)] | rw [ou_pos (by omega)])); exact e4 j j0 j1, fun j j0 j1 => ?_⟩
    by_cases c : j = k
    · subst c; exact jf_pos ⟨rfl, rfl, rfl⟩
    · rw [jf_neg (by omega)]; exact e5 j j0 (by omega)
  show jE (b_X37_renew_78 u T 32) _
  unfold b_X37_renew_78
  rw [if_neg (by omega)]
  refine jS_inr ?_
  rw [eu_X37_renew_100]; unfold du_X37_renew_100
  rw [← hU, em_X43_marking]; unfold dm_X43_marking
  rw [jzb_in (.inl rfl), Option.bind_some, em_X43_forget]; unfold dm_X43_forget
  simp only [jls, Option.bind_some]
  have key : ∀ j, ¬ j = 24 → ∀ w : jS, (rnT t w U ∧ (∀ j, 0 ≤ j → j < 131072 → jf w 1000 (U + 3) j = 0) ∧ (∀ j, 0 ≤ j → j < 65536 → jf w 1002 (U + 4) j = 0) ∧ (∀ j, 0 ≤ j → j < 8 → jf w 1000 (U + 5) j = 0 ∧ jf w 1000 (U + 6) j = 0 ∧ jf w 1000 (U + 7) j = 0) ∧ ∀ j, 0 ≤ j → j < 32 → jf w 1000 (U + 9) j = 0) → (rnT t (jp w 47 U j 0) U ∧ (∀ i, 0 ≤ i → i < 131072 → jf (jp w 47 U j 0) 1000 (U + 3) i = 0) ∧ (∀ i, 0 ≤ i → i < 65536 → jf (jp w 47 U j 0) 1002 (U + 4) i = 0) ∧ (∀ i, 0 ≤ i → i < 8 → jf (jp w 47 U j 0) 1000 (U + 5) i = 0 ∧ jf (jp w 47 U j 0) 1000 (U + 6) i = 0 ∧ jf (jp w 47 U j 0) 1000 (U + 7) i = 0) ∧ ∀ i, 0 ≤ i → i < 32 → jf (jp w 47 U j 0) 1000 (U + 9) i = 0) :=
    fun j j1 w ⟨f1, f2, f3, f4, f5⟩ => ⟨f1.jp (by omega), fun i i0 i1 => by (repeat (first | rw [jf_neg (by omega)] | rw [jf_pos (by omega)] | rw [ou_neg (by omega)] | rw [ou_pos (by omega)])); exact f2 i i0 i1, fun i i0 i1 => by (repeat (first | rw [jf_neg (by omega)] | rw [jf_pos (by omega)] | rw [ou_neg (by omega)] | rw [ou_pos (by omega)])); exact f3 i i0 i1, fun i i0 i1 => by have := f4 i i0 i1; refine ⟨?_, ?_, ?_⟩ <;> (repeat (first | rw [jf_neg (by omega)] | rw [jf_pos (by omega)] | rw [ou_neg (by omega)] | rw [ou_pos (by omega)])) <;> omega, fun i i0 i1 => by (repeat (first | rw [jf_neg (by omega)] | rw [jf_pos (by omega)] | rw [ou_neg (by omega)] | rw [ou_pos (by omega)])); exact f5 i i0 i1⟩
  have w1 := key 7 (by omega) u ⟨e1, e2, e3, e4, e5⟩
  have w2 := key 23 (by omega) _ w1
  have w3 := key 9 (by omega) _ w2
  have w4 := key 11 (by omega) _ w3
  have w5 := key 13 (by omega) _ w4
  have w6 := key 14 (by omega) _ w5
  have w7 := key 16 (by omega) _ w6
  have w8 := key 17 (by omega) _ w7
  have w9 := key 18 (by omega) _ w8
  have w10 := key 19 (by omega) _ w9
  have w11 := key 20 (by omega) _ w10
  have w12 := key 21 (by omega) _ w11
  obtain ⟨f1, f2, f3, f4, f5⟩ := key 23 (by omega) _ w12
  refine jS_end ⟨f1, f2, f3, f4, f5, fun k hk => ?_⟩
  have : k = 7 ∨ k = 9 ∨ k = 11 ∨ k = 13 ∨ k = 14 ∨ k = 16 ∨ k = 17 ∨ k = 18 ∨ k = 19 ∨ k = 20 ∨ k = 21 ∨ k = 23 := by omega
  rcases this with e | e | e | e | e | e | e | e | e | e | e | e <;> subst e <;> (repeat (first | rw [jf_neg (by omega)] | rw [jf_pos (by omega)] | rw [ou_neg (by omega)] | rw [ou_pos (by omega)]))
/-- the machines while an image is loaded: registers, marking and pc aside -/
def Lsc (C D : Int → Int) : Prop := C 11 = D 17 ∧ C 12 = D 18 ∧ C 13 = D 19 ∧ (C 14 = D 20 ∧ -2147483648 ≤ D 20 ∧ D 20 ≤ 2147483647) ∧ (C 15 = D 21 ∧ -2147483648 ≤ D 21 ∧ D 21 ≤ 2147483647) ∧ C 17 = D 14 ∧ 0 ≤ D 14 ∧ D 14 ≤ D 13 ∧ C 18 = D 16 ∧ 0 ≤ D 16 ∧ D 16 ≤ 2000
def Ml (s : jS) (M : Int) (t : jS) (U : Int) : Prop := MrK s M ∧ pRows t (U + 1) ∧ MrMem (jf s 1001 (M + 1)) (jf t 1000 (U + 3)) ∧ MrMark (jf s 1002 (M + 2)) (jf t 1002 (U + 4)) ∧ MrSeg M (jf s 35) (jf t 1000 (U + 5)) (jf t 1000 (U + 6)) (jf t 1000 (U + 7)) ∧ MrIn (jf s 33 M) (jf t 47 U) (jf s 1001 (M + 6)) (jf t 1000 (U + 10)) ∧ MrOut (jf s 1001 (M + 7)) (jf t 1000 (U + 11)) ∧ MrHalt (jf s 33 M) (jf t 47 U) (jf s 1000 (M + 5)) (jf t 1000 (U + 8)) ∧ Lsc (jf s 33 M) (jf t 47 U) ∧ MrRing M (jf s 33 M) (jf t 47 U) (jf s 36) (jf t 1000 (U + 12)) ∧ jf t 47 U 23 = 0
theorem l_renew2 (h : Mr s M t U) (hM : M = C + 4029) (hU : U = T + 130) : jE2 (m_X1_renew s C) (m_X37_renew t T) fun r q => Ml r.1 M q.1 U ∧ jFx s r.1 M 119 ∧ jFm t q.1 U 13 ∧ (∀ k, 0 ≤ k → k < 32 → jf r.1 1000 (M + 4) k = 0 ∧ jf q.1 1000 (U + 9) k = 0) := by
  obtain ⟨hK, hP, hMem, hMark, hSeg, hReg, hIn, hOut, hHalt, hSc, hRing⟩ := h
  obtain ⟨r, er, f1, f2, f3, f4, f5, f6, f7⟩ := c_renew (s := s) hM
  obtain ⟨q, eq, g1, g2, g3, g4, g5, g6⟩ := T_renew (t := t) hU
  have fs : ∀ c a k, ¬ (c = 1001 ∧ a = M + 1) → ¬ (c = 1002 ∧ a = M + 2) → ¬ (c = 35 ∧ M + 10 ≤ a ∧ a < M + 18 ∧ k = 1) → ¬ (c = 1000 ∧ a = M + 4) → ¬ (c = 33 ∧ a = M ∧ 11 ≤ k ∧ ¬ k = 20) → jf r.1 c a k = jf s c a k := f1.2
  have gs : ∀ c a k, ¬ (c = 1000 ∧ (a = U + 3 ∨ a = U + 5 ∨ a = U + 6 ∨ a = U + 7 ∨ a = U + 9)) → ¬ (c = 1002 ∧ a = U + 4) → ¬ (c = 47 ∧ a = U ∧ ¬ k = 24) → jf q.1 c a k = jf t c a k := g1.2
  have d7 := g6 7 (by omega)
  have d9 := g6 9 (by omega)
  have d13 := g6 13 (by omega)
  have d14 := g6 14 (by omega)
  have d16 := g6 16 (by omega)
  have d17 := g6 17 (by omega)
  have d18 := g6 18 (by omega)
  have d19 := g6 19 (by omega)
  have d20 := g6 20 (by omega)
  have d21 := g6 21 (by omega)
  have d23 := g6 23 (by omega)
  have c11 := f6 11 (by omega) (by omega)
  have c12 := f6 12 (by omega) (by omega)
  have c13 := f6 13 (by omega) (by omega)
  have c14 := f6 14 (by omega) (by omega)
  have c15 := f6 15 (by omega) (by omega)
  have c16 := f6 16 (by omega) (by omega)
  have c17 := f6 17 (by omega) (by omega)
  have c18 := f6 18 (by omega) (by omega)
  have c19 := f6 19 (by omega) (by omega)
  refine jE2_mk er eq ⟨⟨hK.sm f1.1.1.1, fun i i0 i1 => by rw [gs _ _ _ (by omega) (by omega) (by omega)]; exact hP i i0 i1, fun k k0 k1 => ?_, fun k k0 k1 => ?_, fun k k0 k1 => ?_, ⟨by omega, by omega, by omega, fun k k0 k1 => ?_⟩, fun k k0 k1 => ?_, ⟨by omega, by omega, by omega, fun k k0 k1 => ?_⟩, by unfold Lsc; omega, ?_, d23⟩, f1.1, g1.1, fun k k0 k1 => ⟨f5 k k0 k1, g5 k k0 k1⟩⟩
  · rw [f2 k k0 k1, g2 k k0 k1]; exact ⟨by omega, by omega, rfl⟩
  · rw [f3 k k0 k1, g3 k k0 k1]
  · obtain ⟨p1, p2, p3⟩ := g4 k k0 k1
    have q := hSeg k k0 k1
    rw [p1, p2, p3, f4 k k0 k1, fs 35 (M + 10 + k) 0 (by omega) (by omega) (by omega) (by omega) (by omega)]
    exact ⟨by omega, by omega, by omega, by omega, by omega, q.2.2.2.2.2.1, q.2.2.2.2.2.2.1, rfl, .inl rfl⟩
  · rw [fs _ _ _ (by omega) (by omega) (by omega) (by omega) (by omega), gs _ _ _ (by omega) (by omega) (by omega)]; exact hIn.2.2.2 k k0 k1
  · rw [fs _ _ _ (by omega) (by omega) (by omega) (by omega) (by omega), gs _ _ _ (by omega) (by omega) (by omega)]; exact hOut k k0 k1
  · rw [fs _ _ _ (by omega) (by omega) (by omega) (by omega) (by omega), gs _ _ _ (by omega) (by omega) (by omega)]; exact hHalt.2.2.2 k k0 k1
  · exact hRing.zero (fs _ _ _ (by omega) (by omega) (by omega) (by omega) (by omega)) f7 d23 (gs _ _ _ (by omega) (by omega) (by omega))
end jRenew2
