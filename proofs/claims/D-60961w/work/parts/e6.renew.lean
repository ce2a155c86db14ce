/-! the machine is renewed, on both sides -/
section jRenew
variable {s t u : jS} {C T M U O X n x k w a v : Int}
/-- what renewing leaves alone -/
def rnF (s r : jS) (M : Int) : Prop := jFx s r M 119 ∧ ∀ c a k, ¬ (c = 1001 ∧ a = M + 1) → ¬ (c = 1002 ∧ a = M + 2) → ¬ (c = 35 ∧ M + 10 ≤ a ∧ a < M + 18 ∧ k = 1) → ¬ (c = 1000 ∧ a = M + 4) → ¬ (c = 33 ∧ a = M ∧ 11 ≤ k ∧ ¬ k = 20) → jf r c a k = jf s c a k
theorem rnF.rfl : rnF s s M := ⟨jFx.rfl, fun _ _ _ _ _ _ _ _ => Eq.refl _⟩
theorem rnF.jp {c a j : Int} (h : rnF s u M) (e : jSs c j = false) (h' : c = 1001 ∧ a = M + 1 ∨ c = 1002 ∧ a = M + 2 ∨ (c = 35 ∧ M + 10 ≤ a ∧ a < M + 18 ∧ j = 1) ∨ c = 1000 ∧ a = M + 4 ∨ (c = 33 ∧ a = M ∧ 11 ≤ j ∧ ¬ j = 20)) : rnF s (jp u c a j v) M := ⟨h.1.jp e (by omega) (by omega), fun c' a' k' h1 h2 h3 h4 h5 => by
  rw [jf_jp, if_neg (fun z => by obtain ⟨z1, z2, z3⟩ := z; subst z1 z2 z3; rcases h' with w | w | w | w | w; exact h1 w; exact h2 w; exact h3 w; exact h4 w; exact h5 w)]; exact h.2 c' a' k' h1 h2 h3 h4 h5⟩
theorem c_renew (hM : M = C + 4029) : jE (m_X1_renew s C) fun r => rnF s r.1 M ∧ (∀ k, 0 ≤ k → k < 131072 → jf r.1 1001 (M + 1) k = 0) ∧ (∀ k, 0 ≤ k → k < 65536 → jf r.1 1002 (M + 2) k = 0) ∧ (∀ k, 0 ≤ k → k < 8 → jf r.1 35 (M + 10 + k) 1 = 0) ∧ (∀ k, 0 ≤ k → k < 32 → jf r.1 1000 (M + 4) k = 0) ∧ (∀ k, 11 ≤ k → k < 20 → jf r.1 33 M k = 0) ∧ jf r.1 33 M 21 = 0 := by
  rw [em_X1_renew]; unfold dm_X1_renew
  rw [eu_X1_renew_2]; unfold du_X1_renew_2
  refine jS_for (fun k u => rnF s u M ∧ ∀ j, 0 ≤ j → j < k → jf u 1001 (M + 1) j = 0) (fun k => [C, k]) 0 131072 (by omega) ⟨rnF.rfl, fun j j0 j1 => by omega⟩ (fun k u k0 k1 ⟨e1, e2⟩ => ?_) (fun u ⟨e1, e2⟩ => ?_)
  · show jE (b_X1_renew_2 u C k) _
    unfold b_X1_renew_2
    rw [if_pos k1, ← hM, jst_in k0 k1, Option.bind_some, W32_in (by omega) (by omega), show W8 0 = 0 by rw [W8_sb]; rfl]
    refine jS_end ⟨rfl, e1.jp (jSs_a (by omega) rfl _) (by omega), fun j j0 j1 => ?_⟩
    by_cases c : j = k
    · subst c; exact jf_pos ⟨rfl, rfl, rfl⟩
    · rw [jf_neg (by omega)]; exact e2 j j0 (by omega)
  show jE (b_X1_renew_2 u C 131072) _
  unfold b_X1_renew_2
  rw [if_neg (by omega)]
  refine jS_inr ?_
  rw [eu_X1_renew_24]; unfold du_X1_renew_24
  rw [eu_X1_renew_26]; unfold du_X1_renew_26
  refine jS_for (fun k u => rnF s u M ∧ (∀ j, 0 ≤ j → j < 131072 → jf u 1001 (M + 1) j = 0) ∧ ∀ j, 0 ≤ j → j < k → jf u 1002 (M + 2) j = 0) (fun k => [C, k]) 0 65536 (by omega) ⟨e1, e2, fun j j0 j1 => by omega⟩ (fun k u k0 k1 ⟨e1, e2, e3⟩ => ?_) (fun u ⟨e1, e2, e3⟩ => ?_)
  · show jE (b_X1_renew_26 u C k) _
    unfold b_X1_renew_26
    rw [if_pos k1, ← hM, jst_in k0 k1, Option.bind_some, W32_in (by omega) (by omega), Wz_0]
    refine jS_end ⟨rfl, e1.jp (jSs_a (by omega) rfl _) (by omega), fun j j0 j1 => by (repeat (first | rw [jf_neg (by omega)] | rw [jf_pos (by omega)] | rw [ou_neg (by omega)] | rw [ou_pos (by omega)])); exact e2 j j0 j1, fun j j0 j1 => ?_⟩
    by_cases c : j = k
    · subst c; exact jf_pos ⟨rfl, rfl, rfl⟩
    · rw [jf_neg (by omega)]; exact e3 j j0 (by omega)
  show jE (b_X1_renew_26 u C 65536) _
  unfold b_X1_renew_26
  rw [if_neg (by omega)]
  refine jS_inr ?_
  rw [eu_X1_renew_54]; unfold du_X1_renew_54
  rw [eu_X1_renew_56]; unfold du_X1_renew_56
  refine jS_for (fun k u => rnF s u M ∧ (∀ j, 0 ≤ j → j < 131072 → jf u 1001 (M + 1) j = 0) ∧ (∀ j, 0 ≤ j → j < 65536 → jf u 1002 (M + 2) j = 0) ∧ ∀ j, 0 ≤ j → j < k → jf u 35 (M + 10 + j) 1 = 0) (fun k => [C, k]) 0 8 (by omega) ⟨e1, e2, e3, fun j j0 j1 => by omega⟩ (fun k u k0 k1 ⟨e1, e2, e3, e4⟩ => ?_) (fun u ⟨e1, e2, e3, e4⟩ => ?_)
  · show jE (b_X1_renew_56 u C k) _
    unfold b_X1_renew_56
    rw [if_pos k1, ← hM, jix_in k0 k1, Option.bind_some, W32_in (by omega) (by omega), show M + 3 + 7 + 1 * k = M + 10 + k by omega]
    simp only [jls]
    refine jS_end ⟨rfl, e1.jp rfl (by omega), fun j j0 j1 => by (repeat (first | rw [jf_neg (by omega)] | rw [jf_pos (by omega)] | rw [ou_neg (by omega)] | rw [ou_pos (by omega)])); exact e2 j j0 j1, fun j j0 j1 => by (repeat (first | rw [jf_neg (by omega)] | rw [jf_pos (by omega)] | rw [ou_neg (by omega)] | rw [ou_pos (by omega)])); exact e3 j j0 j1, fun j j0 j1 => ?_⟩
    by_cases c : j = k
    · subst c; exact jf_pos ⟨rfl, rfl, rfl⟩
    · rw [jf_neg (by omega)]; exact e4 j j0 (by omega)
  show jE (b_X1_renew_56 u C 8) _
  unfold b_X1_renew_56
  rw [if_neg (by omega)]
  refine jS_inr ?_
  rw [eu_X1_renew_81]; unfold du_X1_renew_81
  rw [eu_X1_renew_83]; unfold du_X1_renew_83
  refine jS_for (fun k u => rnF s u M ∧ (∀ j, 0 ≤ j → j < 131072 → jf u 1001 (M + 1) j = 0) ∧ (∀ j, 0 ≤ j → j < 65536 → jf u 1002 (M + 2) j = 0) ∧ (∀ j, 0 ≤ j → j < 8 → jf u 35 (M + 10 + j) 1 = 0) ∧ ∀ j, 0 ≤ j → j < k → jf u 1000 (M + 4) j = 0) (fun k => [C, k]) 0 32 (by omega) ⟨e1, e2, e3, e4, fun j j0 j1 => by omega⟩ (fun k u k0 k1 ⟨e1, e2, e3, e4, e5⟩ => ?_) (fun u ⟨e1, e2, e3, e4, e5⟩ => ?_)
  · show jE (b_X1_renew_83 u C k) _
    unfold b_X1_renew_83
    rw [if_pos k1, ← hM, jst_in k0 k1, Option.bind_some, W32_in (by omega) (by omega)]
    refine jS_end ⟨rfl, e1.jp rfl (by omega), fun j j0 j1 => by (repeat (first | rw [jf_neg (by omega)] | rw [jf_pos (by omega)] | rw [ou_neg (by omega)] | rw [ou_pos (by omega)])); exact e2 j j0 j1, fun j j0 j1 => by (repeat (first | rw [jf_neg (by omega)] | rw [jf_pos (by omega)] | rw [ou_neg (by omega)] | rw [ou_pos (by omega)])); exact e3 j j0 j1, fun j j0 j1 => by (repeat (first | rw [jf_neg (by omega)] | rw [jf_pos (by omega)] | rw [ou_neg (by omega)] | rw [ou_pos (by omega)])); exact e4 j j0 j1, fun j j0 j1 => ?_⟩
    by_cases c : j = k
    · subst c; exact jf_pos ⟨rfl, rfl, rfl⟩
    · rw [jf_neg (by omega)]; exact e5 j j0 (by omega)
  show jE (b_X1_renew_83 u C 32) _
  unfold b_X1_renew_83
  rw [if_neg (by omega)]
  refine jS_inr ?_
  rw [eu_X1_renew_105]; unfold du_X1_renew_105
  simp only [jls]
  rw [← hM]
  have key : ∀ j, 11 ≤ j → ¬ j = 20 → ∀ w : jS, (rnF s w M ∧ (∀ j, 0 ≤ j → j < 131072 → jf w 1001 (M + 1) j = 0) ∧ (∀ j, 0 ≤ j → j < 65536 → jf w 1002 (M + 2) j = 0) ∧ (∀ j, 0 ≤ j → j < 8 → jf w 35 (M + 10 + j) 1 = 0) ∧ ∀ j, 0 ≤ j → j < 32 → jf w 1000 (M + 4) j = 0) → jSs 33 j = false → (rnF s (jp w 33 M j 0) M ∧ (∀ i, 0 ≤ i → i < 131072 → jf (jp w 33 M j 0) 1001 (M + 1) i = 0) ∧ (∀ i, 0 ≤ i → i < 65536 → jf (jp w 33 M j 0) 1002 (M + 2) i = 0) ∧ (∀ i, 0 ≤ i → i < 8 → jf (jp w 33 M j 0) 35 (M + 10 + i) 1 = 0) ∧ ∀ i, 0 ≤ i → i < 32 → jf (jp w 33 M j 0) 1000 (M + 4) i = 0) :=
    fun j j0 j1 w ⟨f1, f2, f3, f4, f5⟩ e => ⟨f1.jp e (by omega), fun i i0 i1 => by (repeat (first | rw [jf_neg (by omega)] | rw [jf_pos (by omega)] | rw [ou_neg (by omega)] | rw [ou_pos (by omega)])); exact f2 i i0 i1, fun i i0 i1 => by (repeat (first | rw [jf_neg (by omega)] | rw [jf_pos (by omega)] | rw [ou_neg (by omega)] | rw [ou_pos (by omega)])); exact f3 i i0 i1, fun i i0 i1 => by (repeat (first | rw [jf_neg (by omega)] | rw [jf_pos (by omega)] | rw [ou_neg (by omega)] | rw [ou_pos (by omega)])); exact f4 i i0 i1, fun i i0 i1 => by (repeat (first | rw [jf_neg (by omega)] | rw [jf_pos (by omega)] | rw [ou_neg (by omega)] | rw [ou_pos (by omega)])); exact f5 i i0 i1⟩
  have w1 := key 11 (by omega) (by omega) u ⟨e1, e2, e3, e4, e5⟩ rfl
  have w2 := key 12 (by omega) (by omega) _ w1 rfl
  have w3 := key 13 (by omega) (by omega) _ w2 rfl
  have w4 := key 14 (by omega) (by omega) _ w3 rfl
  have w5 := key 15 (by omega) (by omega) _ w4 rfl
  have w6 := key 16 (by omega) (by omega) _ w5 rfl
  have w7 := key 17 (by omega) (by omega) _ w6 rfl
  have w8 := key 18 (by omega) (by omega) _ w7 rfl
  have w9 := key 19 (by omega) (by omega) _ w8 rfl
  obtain ⟨f1, f2, f3, f4, f5⟩ := key 21 (by omega) (by omega) _ w9 rfl
  refine jS_end ⟨f1, f2, f3, f4, f5, fun k k0 k1 => ?_, ?_⟩
  · have : k = 11 ∨ k = 12 ∨ k = 13 ∨ k = 14 ∨ k = 15 ∨ k = 16 ∨ k = 17 ∨ k = 18 ∨ k = 19 := by omega
    rcases this with e | e | e | e | e | e | e | e | e <;> subst e <;> (repeat (first | rw [jf_neg (by omega)] | rw [jf_pos (by omega)] | rw [ou_neg (by omega)] | rw [ou_pos (by omega)]))
  · (repeat (first | rw [jf_neg (by omega)] | rw [jf_pos (by omega)] | rw [ou_neg (by omega)] | rw [ou_pos (by omega)]))
end jRenew
