/-! directives: alignment *-/
set_option maxRecDepth 100000
section jDirecb
variable {s t u w t' s1 t1 : jS} {v A H b lo W k c a hh x y f d n o j e i p pl : Int} {NL : List (List Int)} {I : pI} {OL : List pvO} {SL : List pvS} {z : pvS} {zo : pvO} {Q Q' : jS → jS → Int → Prop} {q : jS × Bool × Int} {r : jS}
theorem neg_m0 (h : (-x) % p = ((0 : Nat) : Int)) : x % p = 0 := Int.emod_eq_zero_of_dvd (Int.dvd_neg.mp (Int.dvd_of_emod_eq_zero h))
/-- filling up where bytes are -/
theorem al_loop (p0 : 1 ≤ p) (p64 : p ≤ 64) : ∀ (m : Nat) (s t : jS) (i : Int), AG s t A H b lo NL I OL SL k z → 0 ≤ jf t 41 H 34 → jf t 41 H 34 < 3 → 0 ≤ i → i + m = n → n ≤ 64 → (-jf t 1000 (H + 153) (jf t 41 H 34)) % p = m → stO s t A H b lo NL I OL SL k z (u_X33_blank_48 s A n i) (u_X37_align_175 t H p) fun u w _ => puQ A H s t m u w
  | 0, s, t, i, h, h0, h3, i0, hi, hn, hm => by
    obtain ⟨aB1, aB, -⟩ := h.1.2.2.2.1.2.2.2.1
    have hB := aB (jf t 41 H 34) h0 (by omega)
    rw [szM_2 _ h3 h0] at hB
    rw [eu_X33_blank_48, eu_X37_align_175]; unfold du_X33_blank_48 du_X37_align_175
    have e1 : jlpW (jc3 b_X33_blank_48) [A, n, i] s = some (s, false, 0) := by
      refine jlpW_r (r := some (s, false, 0)) ?_
      show b_X33_blank_48 s A n i = _
      unfold b_X33_blank_48
      rw [if_neg (by omega)]
    have e2 : jlpW (jc2 b_X37_align_175) [H, p] t = some (t, 1) := by
      refine jlpW_r (r := some (t, 1)) ?_
      show b_X37_align_175 t H p = _
      unfold b_X37_align_175
      rw [jlt_in h0 (by omega), Option.bind_some, jdv_in (by omega), Option.bind_some, I_rem_n (by omega) (by omega) (by omega) (by omega), if_pos (neg_m0 hm), Wz_1]
    rw [e1, e2]
    exact .ret h puQ.rfl
  | m + 1, s, t, i, h, h0, h3, i0, hi, hn, hm => by
    obtain ⟨aB1, aB, -⟩ := h.1.2.2.2.1.2.2.2.1
    have hB := aB (jf t 41 H 34) h0 (by omega)
    rw [szM_2 _ h3 h0] at hB
    have nz : ¬ jf t 1000 (H + 153) (jf t 41 H 34) % p = 0 := fun z => by rw [Int.neg_emod] at hm; split at hm <;> omega
    rcases put2 (x := 0) h h3 with ⟨q, r, e1, e2, e3⟩ | ⟨u, w, v, e1, e2, e3, e4, e5, e6⟩
    · left
      refine ⟨q, r, ?_, ?_, e3⟩
      · rw [eu_X33_blank_48]; unfold du_X33_blank_48
        refine jlpW_r (r := some q) ?_
        show b_X33_blank_48 s A n i = _
        unfold b_X33_blank_48
        rw [if_pos (by omega), e1, Option.bind_some, e3.th]; rfl
      · rw [eu_X37_align_175]; unfold du_X37_align_175
        refine jlpW_r (r := some (r, 0)) ?_
        show b_X37_align_175 t H p = _
        unfold b_X37_align_175
        rw [jlt_in h0 (by omega), Option.bind_some, jdv_in (by omega), Option.bind_some, I_rem_n (by omega) (by omega) (by omega) (by omega), if_neg nz, e2, Option.bind_some, Wz_0]
        dsimp only
        rw [if_pos rfl]
    · have e34 : jf w 41 H 34 = jf t 41 H 34 := e6.2.1 _ _ _ (by omega)
      have hm' : (-jf w 1000 (H + 153) (jf w 41 H 34)) % p = m := by
        rw [e34, e6.2.2]
        have : (-(jf t 1000 (H + 153) (jf t 41 H 34) + 1)) = (-jf t 1000 (H + 153) (jf t 41 H 34)) - 1 := by omega
        rw [this, Int.sub_emod, hm]
        by_cases p1 : p = 1
        · subst p1; omega
        · rw [Int.emod_eq_of_lt (a := 1) (by omega) (by omega), show ((m + 1 : Nat) : Int) - 1 = m by omega]
          have : (-jf t 1000 (H + 153) (jf t 41 H 34)) % p < p := Int.emod_lt_of_pos _ (by omega)
          exact Int.emod_eq_of_lt (by omega) (by omega)
      have ih := al_loop p0 p64 m u w (i + 1) e3 (by rw [e34]; exact h0) (by rw [e34]; exact h3) (by omega) (by omega) hn hm'
      have s1 : u_X33_blank_48 s A n i = u_X33_blank_48 u A n (i + 1) := by
        rw [eu_X33_blank_48]; unfold du_X33_blank_48
        refine jlpW_l ?_
        show b_X33_blank_48 s A n i = _
        unfold b_X33_blank_48
        rw [if_pos (by omega), e1, Option.bind_some]
        dsimp only
        rw [jth_ff, W32_in (by omega) (by omega)]
      have s2 : u_X37_align_175 t H p = u_X37_align_175 w H p := by
        rw [eu_X37_align_175]; unfold du_X37_align_175
        refine jlpW_l ?_
        show b_X37_align_175 t H p = _
        unfold b_X37_align_175
        rw [jlt_in h0 (by omega), Option.bind_some, jdv_in (by omega), Option.bind_some, I_rem_n (by omega) (by omega) (by omega) (by omega), if_neg nz, e2, Option.bind_some]
        dsimp only
        rw [if_neg n10]
      rw [s1, s2]
      rcases ih with ⟨q, r, d1, d2, d3⟩ | ⟨u', w', v', d1, d2, d3, d4, d5, d6⟩
      · exact .inl ⟨q, r, d1, d2, d3.after e4 e5⟩
      · refine .inr ⟨u', w', v', d1, d2, d3, (e4.trans d4 : cFa A s u' (0 + 0) (0 + 0)), e5.trans d5, ?_⟩
        have := e6.trans d6
        rw [show (1 : Int) + (m : Int) = ((m + 1 : Nat) : Int) by omega] at this
        exact this
/-- filling up where no bytes are -/
theorem al_loop3 (p0 : 1 ≤ p) (p64 : p ≤ 64) : ∀ (m : Nat) (t : jS), jf t 41 H 34 = 3 → 0 ≤ jf t 1000 (H + 153) 3 → jf t 1000 (H + 153) 3 + m ≤ 4096 → (-jf t 1000 (H + 153) 3) % p = m → ∃ w, u_X37_align_175 t H p = some (w, 1) ∧ b3V H (jf t 1000 (H + 153) 3 + m) t w
  | 0, t, h3, n0, n1, hm => by
    refine ⟨t, ?_, tF.rfl, by omega, fun _ _ _ _ => rfl⟩
    rw [eu_X37_align_175]; unfold du_X37_align_175
    refine jlpW_r (r := some (t, 1)) ?_
    show b_X37_align_175 t H p = _
    unfold b_X37_align_175
    rw [h3, jlt_in (by omega) (by omega), Option.bind_some, jdv_in (by omega), Option.bind_some, I_rem_n (by omega) (by omega) (by omega) (by omega), if_pos (neg_m0 hm), Wz_1]
  | m + 1, t, h3, n0, n1, hm => by
    have nz : ¬ jf t 1000 (H + 153) 3 % p = 0 := fun z => by rw [Int.neg_emod] at hm; split at hm <;> omega
    obtain ⟨w, e1, e2⟩ := y_put3 (x := 0) h3 n0 (by omega)
    have s2 : u_X37_align_175 t H p = u_X37_align_175 w H p := by
      rw [eu_X37_align_175]; unfold du_X37_align_175
      refine jlpW_l ?_
      show b_X37_align_175 t H p = _
      unfold b_X37_align_175
      rw [h3, jlt_in (by omega) (by omega), Option.bind_some, jdv_in (by omega), Option.bind_some, I_rem_n (by omega) (by omega) (by omega) (by omega), if_neg nz, e1, Option.bind_some]
      dsimp only
      rw [if_neg n10]
    have hm' : (-jf w 1000 (H + 153) 3) % p = m := by
      rw [e2.2.1]
      have : (-(jf t 1000 (H + 153) 3 + 1)) = (-jf t 1000 (H + 153) 3) - 1 := by omega
      rw [this, Int.sub_emod, hm]
      by_cases p1 : p = 1
      · subst p1; omega
      · rw [Int.emod_eq_of_lt (a := 1) (by omega) (by omega), show ((m + 1 : Nat) : Int) - 1 = m by omega]
        have : (-jf t 1000 (H + 153) 3) % p < p := Int.emod_lt_of_pos _ (by omega)
        exact Int.emod_eq_of_lt (by omega) (by omega)
    obtain ⟨w', d1, d2⟩ := al_loop3 p0 p64 m w (by rw [e2.2.2 _ _ _ (by omega)]; exact h3) (by rw [e2.2.1]; omega) (by rw [e2.2.1]; omega) hm'
    rw [e2.2.1, show jf t 1000 (H + 153) 3 + 1 + (m : Int) = jf t 1000 (H + 153) 3 + ((m + 1 : Nat) : Int) by omega] at d2
    exact ⟨w', by rw [s2]; exact d1, e2.trans d2⟩
end jDirecb
