/-! the component's expressions: sums -/
section jCexpr6
variable {s t u w v' : jS} {R x b a a' n p p' q r k c f v y e d o z K X Y X' Y' P Q pl lo lo' : Int} {g : Int → Int} {l m : List Int} {NL : List (List Int)} {W : wR4} {st st' : pS} {L L1 L2 : pI} {qq : jS × Bool × Int} {F : GT_sum} {G : gP}
theorem cOut.after {pr : pR} (h : cOut w R x b a g n p' e lo pr qq) (k : cSt u w R x b g n p p') (hp : p ≤ p') : cOut u R x b a g n p e lo pr qq := by
  cases pr with
  | inl z => exact ⟨h.1, h.2.after k⟩
  | inr z => exact ⟨h.1, h.2.1, h.2.2.1, k.trans h.2.2.2.1, by have := h.2.2.2.2; omega⟩
theorem cOut.mono {pr : pR} (h : cOut u R x b a g n p e lo pr qq) (he : k ≤ e) (hl : lo' ≤ lo) : cOut u R x b a g n p k lo' pr qq := by
  cases pr with
  | inl z => exact h
  | inr z => exact ⟨h.1, h.2.1, h.2.2.1.up hl (Nat.le_refl _), h.2.2.2.1, by have := h.2.2.2.2; omega⟩
/-- counted and taken -/
theorem cR.cnttk (C : cR u R x b a g n st) (lk : lkS u R x g n (wd g n st.1)) (h1 : ¬ (st.2.2.1 = 2000 ∨ st.2.2.2 = 60)) : ∃ w, m_X44_take (jp u 53 R 14 (st.2.2.1 + 1)) R = some (w, 0) ∧ cR w R x b a g n ((wd g n st.1).2.2.2, st.2.1, st.2.2.1 + 1, st.2.2.2 + 1) ∧ kpE u w R x b 0 0 ∧ jf w 53 R 4 = 0 := by
  have hw := wd_in C.1.2.2.2.2.2.2.2.1.1 C.2.2.1.1 C.2.2.1.2
  obtain ⟨c1, c2, c3⟩ := C.cnt lk (fun z => h1 (.inl z))
  have h0 : 0 ≤ (wd g n st.1).2.2.2 := by have := hw.2.2.2.1 lk.2.2.2.2; have := hw.1; have := C.2.2.1.1; omega
  obtain ⟨d1, d2, d3⟩ := c1.take c2 ⟨(hw.2.2.2.1 lk.2.2.2.2).2.1, h0⟩
  exact ⟨_, x_take, d1, (c3.trans d2).mono (by omega) (by omega), d3⟩
theorem ce_more {l' : Int} (l1 : 1 ≤ l') (h1 : ∀ j, l' < j → j ≤ 7 → SuS F G R x b a g n d j) : ∀ (m : Nat) (u : jS) (st : pS) (y : Int) (L : pI), (n + 1 - st.1).toNat ≤ m → cR u R x b a g n st → cRm u R g n st.1 → layT lo u L.length y L → lo ≤ jn u → jE (jlpW (jc5 (b_X44_more_6 F)) [R, d, l', y, 1] u) (cOut u R x b a g n st.1 0 lo (morN g n G d l' m L st))
  | 0, u, st, y, L, hm, C, _, _, _ => absurd hm (by have := C.2.2.1.2; omega)
  | m + 1, u, st, y, L, hm, C, M, T, hlo => by
    have hw := wd_in C.1.2.2.2.2.2.2.2.1.1 C.2.2.1.1 C.2.2.1.2
    obtain ⟨C', hC⟩ : ∃ C, C = jc5 (b_X44_more_6 F) := ⟨_, rfl⟩
    rw [← hC, jlpW_st, show C' [R, d, l', y, 1] u = b_X44_more_6 F u R d l' y 1 by rw [hC]; rfl]
    unfold b_X44_more_6
    rw [if_neg (by decide), jct_in C.1.tt]
    refine jE_bind.mpr (jE_bind.mpr (jE_mono (cL_look C M) fun q hq => ?_))
    unfold morN
    rcases hq with ⟨q1, q2, q3⟩ | ⟨q1, q2, C1, lk, S1, M1⟩
    · rw [q2, if_pos q1]
      exact jS_inr (jS_end (jS_end (cOut.flt (z := ((wd g n st.1).2.1, (wd g n st.1).2.2.1)) q3 q2)))
    rw [q2, if_neg q1]
    show jE ((jrd q.1 53 R 5).bind _) _
    rw [jrd_in C1.1.1.1 C1.1.1.2.2, Option.bind_some]
    have k5 : jf q.1 53 R 5 = kdO (wd g n st.1).1 := lk.1.1
    have e5 : jf q.1 53 R 5 = 5 ↔ (wd g n st.1).1 = 5 := by rw [k5]; unfold kdO; split <;> omega
    have T1 := layT.ke C.1 C.2.1 S1 T
    have lo1 : lo ≤ jn q.1 := by have := S1.1.1; omega
    have op : (if jf q.1 53 R 5 = 5 then (jrd q.1 53 R 7).bind fun v3 => (m_X11_sortOf q.1 v3).bind fun v4 => u_X44_more_34 F q.1 R d l' y v4 else u_X44_more_34 F q.1 R d l' y (-1)) = u_X44_more_34 F q.1 R d l' y (opO (wd g n st.1)) := by
      unfold opO
      by_cases c5 : (wd g n st.1).1 = 5
      · rw [if_pos (e5.mpr c5), if_pos c5, jrd_in C1.1.1.1 C1.1.1.2.2, Option.bind_some, lk.1.2.2.2.2 (by omega), x_sortOf, Option.bind_some]
      · rw [if_neg (fun z => c5 (e5.mp z)), if_neg c5]
    rw [op, eu_X44_more_34]; unfold du_X44_more_34
    have stp : ∀ o, u_X44_more_56 F q.1 R d l' y o 0 = some (.inl (q.1, [R, d, l', y, 0])) := fun o => by
      rw [eu_X44_more_56]; unfold du_X44_more_56
      rw [if_pos rfl]
    have fin : jE (jlpW C' [R, d, l', y, 0] q.1) (cOut u R x b a g n st.1 0 lo (.inr (st, L))) := by
      rw [jlpW_st, show C' [R, d, l', y, 0] q.1 = b_X44_more_6 F q.1 R d l' y 0 by rw [hC]; rfl]
      unfold b_X44_more_6
      rw [if_pos rfl]
      exact jE_bind.mpr (jS_inr (jS_end (jS_end ⟨rfl, C1, T1, S1, by show st.1 + 0 ≤ st.1; omega⟩)))
    by_cases c1 : opO (wd g n st.1) = -1
    · rw [if_pos c1, if_pos (.inl c1), eu_X44_more_55]; unfold du_X44_more_55
      rw [stp]; exact jS_end fin
    rw [if_neg c1, x_bindsOf, Option.bind_some]
    by_cases c2 : bnO (opO (wd g n st.1)) < l'
    · rw [if_pos c2, if_pos (.inr c2), eu_X44_more_55]; unfold du_X44_more_55
      rw [stp]; exact jS_end fin
    rw [if_neg c2, if_neg (fun z => z.elim c1 c2), eu_X44_more_56]; unfold du_X44_more_56
    have wz : ¬ (wd g n st.1).1 = 0 := fun z => c1 (by unfold opO; rw [if_neg (by omega)])
    have bd := cRm.bd C1 M1
    rw [if_neg (by decide), jrd_in C1.1.1.1 C1.1.1.2.2, Option.bind_some, jct_in C1.1.tt, x_count C1 ⟨bd.1, bd.2.le (by omega) (by omega)⟩]
    by_cases c3 : st.2.2.1 = 2000 ∨ st.2.2.2 = 60
    · rw [if_pos c3, if_pos c3, lk.2.2.1]
      refine jS_inr (jS_end (jS_end ?_))
      exact ⟨rfl, (cFl.thr C1).after S1⟩
    rw [if_neg c3, if_neg c3]
    show jE ((jct (jp q.1 53 R 14 (st.2.2.1 + 1)) 69 R (m_X44_take (jp q.1 53 R 14 (st.2.2.1 + 1)) R)).bind _) _
    obtain ⟨w3, t1, C3, k3, f3⟩ := C1.cnttk lk c3
    have tt : jTt (jp q.1 53 R 14 (st.2.2.1 + 1)) 69 R := (C1.cnt lk (fun z => c3 (.inl z))).1.1.tt
    rw [jct_in tt, t1, Option.bind_some]
    have b3 : 0 ≤ jn w3 ∧ jBd w3 1 3 := kpE.bd bd k3 (by omega) (by omega)
    obtain ⟨n1, C4, n4, n5, n6, n7⟩ := tm_new (K := 67) (nf := 3) (F := jdf 67) C3 (.inr (.inr rfl)) b3
    show jE ((jnw w3 67 3 (jdf 67)).bind _) _
    rw [n1, Option.bind_some]
    show jE ((m_X11_bindsOf (jmk w3 67 0 (jdf 67) 3) (opO (wd g n st.1))).bind _) _
    rw [x_bindsOf, Option.bind_some]
    have bl := bnO_lo (o := opO (wd g n st.1))
    rw [W32_in (by omega) (by omega)]
    generalize hw4 : jmk w3 67 0 (jdf 67) 3 = w4 at *
    have hR := C1.1.1.2.1
    have hx := C1.1.row
    have k4 : kpE q.1 w4 R x b 1 3 := (k3.then (n5.mono (Int.le_refl _) (Int.le_refl _) (fun _ _ z => z.elim)) hR (by omega)).mono (by omega) (by omega)
    have S4 : cSt q.1 w4 R x b g n st.1 (wd g n st.1).2.2.2 := cSt.tk C1 lk wz k4 (by rw [n4]; exact f3) (by omega) (by omega)
    have M4 := M1.after S4
    refine jE_bind.mpr (jE_mono (h1 (bnO (opO (wd g n st.1)) + 1) (by omega) (by omega) w4 _ C4 M4) fun q6 hq6 => ?_)
    have pl : st.1 + 1 ≤ (wd g n st.1).2.2.2 := by have := hw.2.2.2.1 q1; have := hw.1; omega
    cases hG : G.1 ((wd g n st.1).2.2.2, st.2.1, st.2.2.1 + 1, st.2.2.2 + 1) d (bnO (opO (wd g n st.1)) + 1) with
    | inl z =>
      rw [hG] at hq6
      obtain ⟨r1, r2⟩ := hq6
      rw [r1]
      exact jS_inr (jS_end (jS_end (cOut.flt ((r2.after S4).after S1) r1)))
    | inr z =>
      rw [hG] at hq6
      obtain ⟨r1, C6, T6, S6, p6⟩ := hq6
      have p6' : (wd g n st.1).2.2.2 + 1 ≤ z.1.1 := p6
      rw [r1]
      show jE ((jck0 (jn w3) (m_X50_init q6.1 (jn w3) (opO (wd g n st.1)) y q6.2.2)).bind _) _
      rw [jck0_in b3.1, x50 b3.1, Option.bind_some]
      refine jS_end ?_
      show jE (jlpW C' [R, d, l', jn w3, 1] _) _
      rw [hC]
      have k6 : jK q6.1 (jn w3) = 67 := by rw [(S6.2.1 (jn w3) (by omega)).1]; exact n6
      have nn3 : jn q.1 ≤ jn w3 := k3.1.1
      have g7 : jGw q6.1 (jp (jp (jp q6.1 67 (jn w3) 0 (opO (wd g n st.1))) 67 (jn w3) 1 y) 67 (jn w3) 2 q6.2.2) 0 0 (fun z => z = jn w3) := (((jGw.rfl (A := fun z => z = jn w3)).jp (.inl rfl)).jp (.inl rfl)).jp (.inl rfl)
      have e0 : jf (jp (jp (jp q6.1 67 (jn w3) 0 (opO (wd g n st.1))) 67 (jn w3) 1 y) 67 (jn w3) 2 q6.2.2) 67 (jn w3) 0 = opO (wd g n st.1) := by (repeat (first | rw [jf_neg (by omega)] | rw [jf_pos (by omega)] | rw [ou_neg (by omega)] | rw [ou_pos (by omega)]))
      have e1 : jf (jp (jp (jp q6.1 67 (jn w3) 0 (opO (wd g n st.1))) 67 (jn w3) 1 y) 67 (jn w3) 2 q6.2.2) 67 (jn w3) 1 = y := by (repeat (first | rw [jf_neg (by omega)] | rw [jf_pos (by omega)] | rw [ou_neg (by omega)] | rw [ou_pos (by omega)]))
      have e2 : jf (jp (jp (jp q6.1 67 (jn w3) 0 (opO (wd g n st.1))) 67 (jn w3) 1 y) 67 (jn w3) 2 q6.2.2) 67 (jn w3) 2 = q6.2.2 := by (repeat (first | rw [jf_neg (by omega)] | rw [jf_pos (by omega)] | rw [ou_neg (by omega)] | rw [ou_pos (by omega)]))
      have e3 : jK (jp (jp (jp q6.1 67 (jn w3) 0 (opO (wd g n st.1))) 67 (jn w3) 1 y) 67 (jn w3) 2 q6.2.2) (jn w3) = 67 := k6
      generalize jp (jp (jp q6.1 67 (jn w3) 0 (opO (wd g n st.1))) 67 (jn w3) 1 y) 67 (jn w3) 2 q6.2.2 = w7 at *
      have C7 := (C6.tm (g7.mono (Int.le_refl _) (Int.le_refl _) fun z _ hz => by unfold tmA; rw [hz, k6]; omega)).1
      have S7 : cSt q.1 w7 R x b g n st.1 z.1.1 := (S4.trans S6).then (g7.mono (Int.le_refl _) (Int.le_refl _) fun z _ hz => by omega) hR (by omega)
      have T7 := layT.ke C1.1 C1.2.1 S7 T1
      have T8 : layT lo w7 z.2.length q6.2.2 z.2 := (layT.lt g7 (fun z hz => by omega) T6).up (by omega) (Nat.le_refl _)
      have nn7 : jn q6.1 ≤ jn w7 := g7.1.1
      have nn6 : jn w4 ≤ jn q6.1 := S6.1.1
      have T9 : layT lo w7 (L ++ z.2 ++ [(opO (wd g n st.1), 0)]).length (jn w3) (L ++ z.2 ++ [(opO (wd g n st.1), 0)]) := by
        have hlen : (L ++ z.2 ++ [(opO (wd g n st.1), (0 : Int))]).length = (L.length + z.2.length) + 1 := by simp [Nat.add_assoc]
        rw [hlen]
        refine ⟨⟨by omega, by omega⟩, .inr (.inr ⟨e3, L, z.2, ?_, ?_, ?_⟩)⟩
        · rw [e1]; exact T7.up (Int.le_refl _) (by omega)
        · rw [e2]; exact T8.up (Int.le_refl _) (by omega)
        · rw [e0]
      refine jE_mono (ce_more l1 h1 m w7 z.1 (jn w3) _ (by omega) C7 (M1.after S7) T9 (by omega)) fun qq hqq => ?_
      exact hqq.after (S1.trans S7) (by omega)
end jCexpr6
