/-! the component's expressions: single terms, the whole -/
section jCexpr7
variable {s t u w v' : jS} {R x b a a' n p p' q r k c f v y e d o z K X Y X' Y' P Q pl lo lo' : Int} {g : Int → Int} {l m : List Int} {NL : List (List Int)} {W : wR4} {st st' : pS} {L L1 L2 : pI} {qq : jS × Bool × Int} {F : GT_sum} {G : gP}
theorem jth_ff {α : Type} {A B : Option α} : jth false A B = B := rfl
noncomputable def sgR (g : Int → Int) (n : Int) (G : gP) (st : pS) (deep : Int) : pR :=
  if 20 < deep then .inl (7, (wd g n st.1).2.2.1)
  else if (wd g n st.1).1 = 5 ∧ (wd g n st.1).2.1 = 40 then G.2.2.2 ((wd g n st.1).2.2.2, st.2) (deep + 1)
  else if st.2.2.1 = 2000 ∨ st.2.2.2 = 60 then .inl (8, (wd g n st.1).2.2.1)
  else if (wd g n st.1).1 = 5 then
    match G.2.2.1 ((wd g n st.1).2.2.2, st.2.1, st.2.2.1 + 1, st.2.2.2 + 1) (deep + 1) with
    | .inl e => .inl e
    | .inr (s', L) => .inr (s', L ++ [(if (wd g n st.1).2.1 = 45 then 10 else 11, 0)])
  else if (wd g n st.1).1 = 1 then
    if nmIx st.2.1 (nmO g (wd g n st.1).2.2.1 (wd g n st.1).2.2.2) = 150 then .inl (8, (wd g n st.1).2.2.1)
    else .inr (((wd g n st.1).2.2.2, nmAdd st.2.1 (nmO g (wd g n st.1).2.2.1 (wd g n st.1).2.2.2), st.2.2.1 + 1, st.2.2.2 + 1), [(1, (nmIx st.2.1 (nmO g (wd g n st.1).2.2.1 (wd g n st.1).2.2.2) : Nat))])
  else .inr (((wd g n st.1).2.2.2, st.2.1, st.2.2.1 + 1, st.2.2.2 + 1), [if (wd g n st.1).1 = 2 then (0, (wd g n st.1).2.1) else if (wd g n st.1).1 = 3 then (2, (wd g n st.1).2.1) else (3, 0)])
theorem sglF_eq : sglF g n G st d = if (wd g n st.1).1 = 6 then .inl ((wd g n st.1).2.1, (wd g n st.1).2.2.1)
  else if ¬ ((wd g n st.1).1 = 5 ∧ ((wd g n st.1).2.1 = 45 ∨ (wd g n st.1).2.1 = 126 ∨ (wd g n st.1).2.1 = 40)) ∧ ¬ ((wd g n st.1).1 = 1 ∨ (wd g n st.1).1 = 7 ∨ (wd g n st.1).1 = 2 ∨ (wd g n st.1).1 = 3) then .inl (5, (wd g n st.1).2.2.1)
  else if ((wd g n st.1).1 = 1 ∨ (wd g n st.1).1 = 7) ∧ ¬ rgO (nmO g (wd g n st.1).2.2.1 (wd g n st.1).2.2.2) = -1 then .inl (6, (wd g n st.1).2.2.1)
  else sgR g n G st d := rfl
/-- the word is taken, a leaf is made -/
theorem sg_277 (C : cR u R x b a g n st) (lk : lkS u R x g n (wd g n st.1)) (hB : 0 ≤ jn u ∧ jBd u 1 2) : ∃ w, u_X44_single_277 F u R o v = some (w, false, jn u) ∧ cR w R x b a g n ((wd g n st.1).2.2.2, st.2) ∧ kpE u w R x b 1 2 ∧ jf w 53 R 4 = 0 ∧ layT (jn u) w 1 (jn u) [(o, v)] := by
  have hw := wd_in C.1.2.2.2.2.2.2.2.1.1 C.2.2.1.1 C.2.2.1.2
  have h0 : 0 ≤ (wd g n st.1).2.2.2 := by have := hw.2.2.2.1 lk.2.2.2.2; have := hw.1; have := C.2.2.1.1; omega
  obtain ⟨d1, d2, d3⟩ := C.take lk ⟨(hw.2.2.2.1 lk.2.2.2.2).2.1, h0⟩
  rw [eu_X44_single_277]; unfold du_X44_single_277
  rw [jct_in C.1.tt, x_take, Option.bind_some]
  obtain ⟨w, e1, e2, e3, e4, e5⟩ := x_leaf (o := o) (y := v) d1 hB
  refine ⟨w, e1, e2, (d2.then (e4.mono (Int.le_refl _) (Int.le_refl _) fun _ _ z => z.elim) C.1.1.2.1 (by have := C.1.row; omega)).mono (by omega) (by omega), by rw [e3]; exact d3, e5⟩
theorem sg_br (h2 : d ≤ 20 → InS F G R x b a g n (d + 1)) (d1 : 1 ≤ d) (d2 : d ≤ 21) (C : cR u R x b a g n st) (lk : lkS u R x g n (wd g n st.1)) (M : cRm u R g n st.1) (hk : (wd g n st.1).1 = 5 ∧ (wd g n st.1).2.1 = 40) : jE (u_X44_single_128 F u R d 0 1) (cOut u R x b a g n st.1 1 (jn u) (sgR g n G st d)) := by
  have hw := wd_in C.1.2.2.2.2.2.2.2.1.1 C.2.2.1.1 C.2.2.1.2
  have bd := cRm.bd C M
  have h0 : 0 ≤ (wd g n st.1).2.2.2 := by have := hw.2.2.2.1 lk.2.2.2.2; have := hw.1; have := C.2.2.1.1; omega
  rw [eu_X44_single_128]; unfold du_X44_single_128 sgR
  by_cases c1 : 20 < d
  · rw [if_pos c1, if_pos c1, jrd_in C.1.1.1 C.1.1.2.2, Option.bind_some, jct_in C.1.tt, c_thr ⟨bd.1, bd.2.le (by omega) (by omega)⟩, lk.2.2.1]
    exact jS_end ⟨rfl, cFl.thr C⟩
  rw [if_neg c1, if_neg c1, if_pos hk, if_neg (by decide), jct_in C.1.tt, x_take, Option.bind_some, W32_in (by omega) (by omega)]
  obtain ⟨t1, t2, t3⟩ := C.take lk ⟨(hw.2.2.2.1 lk.2.2.2.2).2.1, h0⟩
  have S : cSt u (jp (jp u 53 R 2 (jf u 53 R 8)) 53 R 4 0) R x b g n st.1 (wd g n st.1).2.2.2 := cSt.tk C lk (by omega) t2 t3 (by omega) (by omega)
  rw [jct_in t1.1.tt]
  have pl : st.1 + 1 ≤ (wd g n st.1).2.2.2 := by have := hw.2.2.2.1 lk.2.2.2.2; have := hw.1; omega
  refine jE_bind.mpr (jE_mono (h2 (by omega) _ _ t1 (M.after S)) fun q hq => ?_)
  have hq' := hq.after S (by omega)
  cases hG : G.2.2.2 ((wd g n st.1).2.2.2, st.2) (d + 1) with
  | inl z =>
    rw [hG] at hq'
    rw [hq'.1]
    exact jS_end (cOut.flt hq'.2 hq'.1)
  | inr z =>
    rw [hG] at hq'
    rw [hq'.1]
    exact jS_end ⟨rfl, hq'.2⟩
theorem sg_un (h1 : d ≤ 20 → SgS F G R x b a g n (d + 1)) (d1 : 1 ≤ d) (d2 : d ≤ 21) (C : cR u R x b a g n st) (lk : lkS u R x g n (wd g n st.1)) (M : cRm u R g n st.1) (hk : (wd g n st.1).1 = 5 ∧ ((wd g n st.1).2.1 = 45 ∨ (wd g n st.1).2.1 = 126)) : jE (u_X44_single_128 F u R d 1 0) (cOut u R x b a g n st.1 1 (jn u) (sgR g n G st d)) := by
  have hw := wd_in C.1.2.2.2.2.2.2.2.1.1 C.2.2.1.1 C.2.2.1.2
  have bd := cRm.bd C M
  have h0 : 0 ≤ (wd g n st.1).2.2.2 := by have := hw.2.2.2.1 lk.2.2.2.2; have := hw.1; have := C.2.2.1.1; omega
  rw [eu_X44_single_128]; unfold du_X44_single_128 sgR
  by_cases c1 : 20 < d
  · rw [if_pos c1, if_pos c1, jrd_in C.1.1.1 C.1.1.2.2, Option.bind_some, jct_in C.1.tt, c_thr ⟨bd.1, bd.2.le (by omega) (by omega)⟩, lk.2.2.1]
    exact jS_end ⟨rfl, cFl.thr C⟩
  rw [if_neg c1, if_neg c1, if_neg (show ¬ ((wd g n st.1).1 = 5 ∧ (wd g n st.1).2.1 = 40) by omega), if_pos rfl, jrd_in C.1.1.1 C.1.1.2.2, Option.bind_some, jct_in C.1.tt, x_count C ⟨bd.1, bd.2.le (by omega) (by omega)⟩]
  by_cases c3 : st.2.2.1 = 2000 ∨ st.2.2.2 = 60
  · rw [if_pos c3, if_pos c3, lk.2.2.1]
    exact jS_end ⟨rfl, cFl.thr C⟩
  rw [if_neg c3, if_neg c3, if_pos hk.1, Option.bind_some]
  obtain ⟨C2, lk2, k2⟩ := C.cnt lk (fun z => c3 (.inl z))
  have bd2 : 0 ≤ jn (jp u 53 R 14 (st.2.2.1 + 1)) ∧ jBd (jp u 53 R 14 (st.2.2.1 + 1)) 2050 900050 := bd
  have nn2 : jn (jp u 53 R 14 (st.2.2.1 + 1)) = jn u := rfl
  show jE (jth false _ _) _
  rw [jth_ff, if_neg (by decide)]
  show jE ((jrd (jp u 53 R 14 (st.2.2.1 + 1)) 53 R 7).bind _) _
  rw [jrd_in C2.1.1.1 C2.1.1.2.2, Option.bind_some, lk2.1.2.2.2.2 (by omega)]
  generalize jp u 53 R 14 (st.2.2.1 + 1) = u2 at *
  have key : ∀ o, o = (if (wd g n st.1).2.1 = 45 then (10 : Int) else 11) → jE (u_X44_single_189 F u2 R d o) (cOut u R x b a g n st.1 1 (jn u) (match G.2.2.1 ((wd g n st.1).2.2.2, st.2.1, st.2.2.1 + 1, st.2.2.2 + 1) (d + 1) with
    | .inl e => .inl e
    | .inr (s', L) => .inr (s', L ++ [(if (wd g n st.1).2.1 = 45 then 10 else 11, 0)]))) := fun o ho => by
    rw [eu_X44_single_189]; unfold du_X44_single_189
    rw [jct_in C2.1.tt, x_take, Option.bind_some, ← ho]
    obtain ⟨C3, k3, f3⟩ := C2.take lk2 ⟨(hw.2.2.2.1 lk.2.2.2.2).2.1, h0⟩
    have nn3 : jn (jp (jp u2 53 R 2 (jf u2 53 R 8)) 53 R 4 0) = jn u := nn2
    have bd3 : 0 ≤ jn (jp (jp u2 53 R 2 (jf u2 53 R 8)) 53 R 4 0) ∧ jBd (jp (jp u2 53 R 2 (jf u2 53 R 8)) 53 R 4 0) 2050 900050 := bd2
    show jE ((jnw (jp (jp u2 53 R 2 (jf u2 53 R 8)) 53 R 4 0) 65 2 (jdf 65)).bind _) _
    generalize jp (jp u2 53 R 2 (jf u2 53 R 8)) 53 R 4 0 = w3 at *
    obtain ⟨n1, C4, n4, n5, n6, n7⟩ := tm_new (K := 65) (nf := 2) (F := jdf 65) C3 (.inl rfl) ⟨bd3.1, bd3.2.le (by omega) (by omega)⟩
    rw [n1, Option.bind_some]
    show jE ((F.2.2.1 (jmk w3 65 0 (jdf 65) 2) R (W32 (d + 1))).bind _) _
    rw [W32_in (by omega) (by omega)]
    generalize hw4 : jmk w3 65 0 (jdf 65) 2 = w4 at *
    have hR := C.1.1.2.1
    have hx := C.1.row
    have k4 : kpE u w4 R x b 1 2 := ((k2.trans k3).then (n5.mono (Int.le_refl _) (Int.le_refl _) (fun _ _ z => z.elim)) hR (by omega)).mono (by omega) (by omega)
    have S4 : cSt u w4 R x b g n st.1 (wd g n st.1).2.2.2 := cSt.tk C lk (by omega) k4 (by rw [n4]; exact f3) (by omega) (by omega)
    have pl : st.1 + 1 ≤ (wd g n st.1).2.2.2 := by have := hw.2.2.2.1 lk.2.2.2.2; have := hw.1; omega
    refine jE_bind.mpr (jE_mono (h1 (by omega) w4 _ C4 (M.after S4)) fun q6 hq6 => ?_)
    cases hG : G.2.2.1 ((wd g n st.1).2.2.2, st.2.1, st.2.2.1 + 1, st.2.2.2 + 1) (d + 1) with
    | inl z =>
      rw [hG] at hq6
      obtain ⟨r1, r2⟩ := hq6
      rw [r1]
      exact jS_end (cOut.flt (r2.after S4) r1)
    | inr z =>
      rw [hG] at hq6
      obtain ⟨r1, C6, T6, S6, p6⟩ := hq6
      have p6' : (wd g n st.1).2.2.2 + 1 ≤ z.1.1 := p6
      rw [r1]
      show jE ((jck0 (jn w3) (m_X48_init q6.1 (jn w3) o q6.2.2)).bind _) _
      rw [jck0_in bd3.1, x48 bd3.1, Option.bind_some]
      have k6 : jK q6.1 (jn w3) = 65 := by rw [(S6.2.1 (jn w3) (by omega)).1]; exact n6
      have g7 : jGw q6.1 (jp (jp q6.1 65 (jn w3) 0 o) 65 (jn w3) 1 q6.2.2) 0 0 (fun z => z = jn w3) := ((jGw.rfl (A := fun z => z = jn w3)).jp (.inl rfl)).jp (.inl rfl)
      have e0 : jf (jp (jp q6.1 65 (jn w3) 0 o) 65 (jn w3) 1 q6.2.2) 65 (jn w3) 0 = o := by (repeat (first | rw [jf_neg (by omega)] | rw [jf_pos (by omega)] | rw [ou_neg (by omega)] | rw [ou_pos (by omega)]))
      have e1 : jf (jp (jp q6.1 65 (jn w3) 0 o) 65 (jn w3) 1 q6.2.2) 65 (jn w3) 1 = q6.2.2 := by (repeat (first | rw [jf_neg (by omega)] | rw [jf_pos (by omega)] | rw [ou_neg (by omega)] | rw [ou_pos (by omega)]))
      have e3 : jK (jp (jp q6.1 65 (jn w3) 0 o) 65 (jn w3) 1 q6.2.2) (jn w3) = 65 := k6
      show jE (some ((jp (jp q6.1 65 (jn w3) 0 o) 65 (jn w3) 1 q6.2.2), false, jn w3)) _
      generalize jp (jp q6.1 65 (jn w3) 0 o) 65 (jn w3) 1 q6.2.2 = w7 at *
      have C7 := (C6.tm (g7.mono (Int.le_refl _) (Int.le_refl _) fun z _ hz => by unfold tmA; rw [hz, k6]; omega)).1
      have S7 : cSt u w7 R x b g n st.1 z.1.1 := (S4.trans S6).then (g7.mono (Int.le_refl _) (Int.le_refl _) fun z _ hz => by omega) hR (by omega)
      have T8 : layT (jn u) w7 z.2.length q6.2.2 z.2 := (layT.lt g7 (fun z hz => by omega) T6).up (by omega) (Nat.le_refl _)
      have nn7 : jn q6.1 ≤ jn w7 := g7.1.1
      have nn6 : jn w4 ≤ jn q6.1 := S6.1.1
      refine jS_end ⟨rfl, C7, ?_, S7, by show st.1 + 1 ≤ z.1.1; omega⟩
      show layT (jn u) w7 (z.2 ++ [(o, (0 : Int))]).length (jn w3) (z.2 ++ [(o, 0)])
      have hlen : (z.2 ++ [(o, (0 : Int))]).length = z.2.length + 1 := by simp
      rw [hlen]
      refine ⟨⟨by omega, by omega⟩, .inr (.inl ⟨e3, z.2, ?_, ?_⟩)⟩
      · rw [e1]; exact T8
      · rw [e0]
  by_cases c45 : (wd g n st.1).2.1 = 45
  · rw [if_pos c45]; exact key 10 (by rw [if_pos c45])
  · rw [if_neg c45]; exact key 11 (by rw [if_neg c45])
theorem sg_lf (d2 : d ≤ 21) (C : cR u R x b a g n st) (lk : lkS u R x g n (wd g n st.1)) (M : cRm u R g n st.1) (hk : (wd g n st.1).1 = 1 ∨ (wd g n st.1).1 = 7 ∨ (wd g n st.1).1 = 2 ∨ (wd g n st.1).1 = 3) : jE (u_X44_single_128 F u R d 0 0) (cOut u R x b a g n st.1 1 (jn u) (sgR g n G st d)) := by
  have hw := wd_in C.1.2.2.2.2.2.2.2.1.1 C.2.2.1.1 C.2.2.1.2
  have bd := cRm.bd C M
  rw [eu_X44_single_128]; unfold du_X44_single_128 sgR
  by_cases c1 : 20 < d
  · rw [if_pos c1, if_pos c1, jrd_in C.1.1.1 C.1.1.2.2, Option.bind_some, jct_in C.1.tt, c_thr ⟨bd.1, bd.2.le (by omega) (by omega)⟩, lk.2.2.1]
    exact jS_end ⟨rfl, cFl.thr C⟩
  rw [if_neg c1, if_neg c1, if_neg (show ¬ ((wd g n st.1).1 = 5 ∧ (wd g n st.1).2.1 = 40) by omega), if_pos rfl, jrd_in C.1.1.1 C.1.1.2.2, Option.bind_some, jct_in C.1.tt, x_count C ⟨bd.1, bd.2.le (by omega) (by omega)⟩]
  by_cases c3 : st.2.2.1 = 2000 ∨ st.2.2.2 = 60
  · rw [if_pos c3, if_pos c3, lk.2.2.1]
    exact jS_end ⟨rfl, cFl.thr C⟩
  rw [if_neg c3, if_neg c3, if_neg (show ¬ (wd g n st.1).1 = 5 by omega), Option.bind_some]
  obtain ⟨C2, lk2, k2⟩ := C.cnt lk (fun z => c3 (.inl z))
  have bd2 : 0 ≤ jn (jp u 53 R 14 (st.2.2.1 + 1)) ∧ jBd (jp u 53 R 14 (st.2.2.1 + 1)) 2050 900050 := bd
  have nn2 : jn (jp u 53 R 14 (st.2.2.1 + 1)) = jn u := rfl
  show jE (jth false _ _) _
  rw [jth_ff, if_pos rfl]
  show jE ((jrd (jp u 53 R 14 (st.2.2.1 + 1)) 53 R 5).bind _) _
  rw [jrd_in C2.1.1.1 C2.1.1.2.2, Option.bind_some]
  have k5 : jf (jp u 53 R 14 (st.2.2.1 + 1)) 53 R 5 = kdO (wd g n st.1).1 := lk2.1.1
  have e52 : jf (jp u 53 R 14 (st.2.2.1 + 1)) 53 R 5 = 2 ↔ (wd g n st.1).1 = 2 := by rw [k5]; unfold kdO; split <;> omega
  have e53 : jf (jp u 53 R 14 (st.2.2.1 + 1)) 53 R 5 = 3 ↔ (wd g n st.1).1 = 3 := by rw [k5]; unfold kdO; split <;> omega
  have v7 : (wd g n st.1).1 = 2 ∨ (wd g n st.1).1 = 3 → jf (jp u 53 R 14 (st.2.2.1 + 1)) 53 R 7 = (wd g n st.1).2.1 := fun z => lk2.1.2.2.2.2 (by omega)
  rw [Option.bind_some]
  have pl : st.1 + 1 ≤ (wd g n st.1).2.2.2 := by have := hw.2.2.2.1 lk.2.2.2.2; have := hw.1; omega
  generalize jp u 53 R 14 (st.2.2.1 + 1) = u2 at *
  have fin : ∀ {o v : Int} {w5 : jS} {st5 : pS}, cR w5 R x b a g n st5 → kpE u2 w5 R x b 1 2 → jf w5 53 R 4 = 0 → layT (jn u) w5 1 (jn u) [(o, v)] → st5.1 = (wd g n st.1).2.2.2 → cOut u R x b a g n st.1 1 (jn u) (.inr (st5, [(o, v)])) (w5, false, jn u) := fun {o v w5 st5} h1 h2 h3 h4 h5 =>
    ⟨rfl, h1, h4, by
      show cSt u w5 R x b g n st.1 st5.1
      rw [h5]
      exact cSt.tk C lk (by omega) ((k2.trans h2).mono (X' := 1) (Y' := 2) (by omega) (by omega)) h3 (by omega) (by omega), by show st.1 + 1 ≤ st5.1; omega⟩
  have num : ∀ o, (wd g n st.1).1 = 2 ∨ (wd g n st.1).1 = 3 → ¬ o = 3 → ¬ o = 1 → jE (u_X44_single_248 F u2 R o) (cOut u R x b a g n st.1 1 (jn u) (.inr (((wd g n st.1).2.2.2, st.2.1, st.2.2.1 + 1, st.2.2.2 + 1), [(o, (wd g n st.1).2.1)]))) := fun o z o3 o1 => by
    rw [eu_X44_single_248]; unfold du_X44_single_248
    rw [if_neg o3, if_neg o1, jrd_in C2.1.1.1 C2.1.1.2.2, Option.bind_some, v7 z]
    obtain ⟨w5, r1, r2, r3, r4, r5⟩ := sg_277 (F := F) (o := o) (v := (wd g n st.1).2.1) C2 lk2 ⟨bd2.1, bd2.2.le (by omega) (by omega)⟩
    rw [r1]
    rw [nn2] at r5 ⊢
    exact jS_end (fin r2 r3 r4 r5 rfl)
  by_cases c2 : (wd g n st.1).1 = 2
  · rw [if_pos (e52.mpr c2), if_neg (show ¬ (wd g n st.1).1 = 1 by omega), if_pos c2]
    exact num 0 (.inl c2) (by decide) (by decide)
  rw [if_neg (fun z => c2 (e52.mp z))]
  by_cases c4 : (wd g n st.1).1 = 3
  · rw [if_pos (e53.mpr c4), if_neg (show ¬ (wd g n st.1).1 = 1 by omega), if_neg c2, if_pos c4]
    exact num 2 (.inr c4) (by decide) (by decide)
  rw [if_neg (fun z => c4 (e53.mp z)), jct_in C2.1.tt, x_isHere C2 lk2 (by show (wd g n st.1).1 = 1 ∨ (wd g n st.1).1 = 7; omega), Option.bind_some]
  show jE (if (if (wd g n st.1).1 = 7 then (1 : Int) else 0) = 0 then _ else _) _
  by_cases c7 : (wd g n st.1).1 = 7
  · rw [if_pos c7, if_neg (show ¬ (1 : Int) = 0 by decide), if_neg (show ¬ (wd g n st.1).1 = 1 by omega), if_neg c2, if_neg c4, eu_X44_single_248]; unfold du_X44_single_248
    rw [if_pos rfl]
    obtain ⟨w5, r1, r2, r3, r4, r5⟩ := sg_277 (F := F) (o := 3) (v := 0) C2 lk2 ⟨bd2.1, bd2.2.le (by omega) (by omega)⟩
    rw [r1]
    rw [nn2] at r5 ⊢
    exact jS_end (fin r2 r3 r4 r5 rfl)
  have c1' : (wd g n st.1).1 = 1 := by omega
  have hl := nmO_len (g := g) (hw.2.2.2.1 lk.2.2.2.2).1
  have h16 := hw.2.2.2.2.1 (.inl c1')
  rw [if_neg c7, if_pos rfl, if_pos c1', eu_X44_single_248]; unfold du_X44_single_248
  rw [if_neg (by decide), if_pos rfl, jct_in C2.1.tt]
  have hn := x_named C2 lk2 c1' (by show (nmO g (wd g n st.1).2.2.1 (wd g n st.1).2.2.2).length ≤ 1000; omega) ⟨bd2.1, bd2.2.le (by omega) (by omega)⟩
  have Sc : cSt u u2 R x b g n st.1 st.1 := by
    have e : jf u2 53 R 4 = jf u 53 R 4 := by rw [lk.2.1]; exact lk2.2.1
    refine k2.mono ?_ ?_
    · unfold lkc; rw [e]; omega
    · unfold lkq; rw [e]; omega
  by_cases c150 : nmIx st.2.1 (nmO g (wd g n st.1).2.2.1 (wd g n st.1).2.2.2) = 150
  · rw [if_pos c150] at hn
    rw [hn, Option.bind_some, if_pos c150]
    exact jS_end ⟨rfl, (cFl.thr C2).after Sc⟩
  rw [if_neg c150] at hn
  obtain ⟨w4, m1, C4, lk4, k4⟩ := hn
  rw [m1, Option.bind_some, if_neg c150]
  show jE (u_X44_single_277 F w4 R 1 _) _
  have bd4 : 0 ≤ jn w4 ∧ jBd w4 1 2 := kpE.bd bd2 k4 (by omega) (by omega)
  obtain ⟨w5, r1, r2, r3, r4, r5⟩ := sg_277 (F := F) (o := 1) (v := ((nmIx st.2.1 (nmO g (wd g n st.1).2.2.1 (wd g n st.1).2.2.2) : Nat) : Int)) C4 lk4 bd4
  rw [r1]
  have nn4 : jn u ≤ jn w4 := by have := k4.1; omega
  exact jS_end ⟨rfl, r2, r5.up nn4 (Nat.le_refl _), cSt.tk C lk (by omega) (((k2.trans k4).trans r3).mono (X' := 1) (Y' := 2) (by omega) (by omega)) r4 (by omega) (by omega), pl⟩
theorem ce_one (h1 : d ≤ 20 → SgS F G R x b a g n (d + 1)) (h2 : d ≤ 20 → InS F G R x b a g n (d + 1)) (d1 : 1 ≤ d) (d2 : d ≤ 21) (C : cR u R x b a g n st) (M : cRm u R g n st.1) : jE (mR_X44_single F u R d) (cOut u R x b a g n st.1 1 (jn u) (sglF g n G st d)) := by
  have hw := wd_in C.1.2.2.2.2.2.2.2.1.1 C.2.2.1.1 C.2.2.1.2
  rw [emR_X44_single, sglF_eq]; unfold dmR_X44_single
  rw [jct_in C.1.tt]
  refine jE_bind.mpr (jE_mono (cL_look C M) fun q hq => ?_)
  rcases hq with ⟨q1, q2, q3⟩ | ⟨q1, q2, C1, lk, S1, M1⟩
  · rw [q2, if_pos q1]
    exact jS_end (cOut.flt (z := ((wd g n st.1).2.1, (wd g n st.1).2.2.1)) q3 q2)
  rw [q2, if_neg q1]
  show jE (jth false _ _) _
  rw [jth_ff, jrd_in C1.1.1.1 C1.1.1.2.2, Option.bind_some]
  have k5 : jf q.1 53 R 5 = kdO (wd g n st.1).1 := lk.1.1
  have e5 : jf q.1 53 R 5 = 5 ↔ (wd g n st.1).1 = 5 := by rw [k5]; unfold kdO; split <;> omega
  have e1 : jf q.1 53 R 5 = 1 ↔ (wd g n st.1).1 = 1 ∨ (wd g n st.1).1 = 7 := by rw [k5]; unfold kdO; split <;> omega
  have e2 : jf q.1 53 R 5 = 2 ↔ (wd g n st.1).1 = 2 := by rw [k5]; unfold kdO; split <;> omega
  have e3 : jf q.1 53 R 5 = 3 ↔ (wd g n st.1).1 = 3 := by rw [k5]; unfold kdO; split <;> omega
  have bd := cRm.bd C1 M1
  have nn : jn u ≤ jn q.1 := S1.1.1
  have fin : ∀ {x2 x3 : Int}, jE (u_X44_single_128 F q.1 R d x2 x3) (cOut q.1 R x b a g n st.1 1 (jn q.1) (sgR g n G st d)) → jE (u_X44_single_128 F q.1 R d x2 x3) (cOut u R x b a g n st.1 1 (jn u) (sgR g n G st d)) := fun h => jE_mono h fun q' hq' => (hq'.after S1 (Int.le_refl _)).mono (Int.le_refl _) nn
  have wr : ∀ f, jE ((m_X44_wrong q.1 R f (jf q.1 53 R 6)).bind fun q => jck0 q.2 (some (q.1, true, q.2))) (cOut u R x b a g n st.1 1 (jn u) (.inl (f, (wd g n st.1).2.2.1))) := fun f => by
    rw [c_thr ⟨bd.1, bd.2.le (by omega) (by omega)⟩, lk.2.2.1]
    exact jS_end ⟨rfl, (cFl.thr C1).after S1⟩
  by_cases c5 : (wd g n st.1).1 = 5
  · have v7 : jf q.1 53 R 7 = (wd g n st.1).2.1 := lk.1.2.2.2.2 (by omega)
    have n1 : ¬ jf q.1 53 R 5 = 1 := fun z => by have := e1.mp z; omega
    rw [if_pos (e5.mpr c5), jrd_in C1.1.1.1 C1.1.1.2.2, Option.bind_some, v7]
    by_cases cu : (wd g n st.1).2.1 = 45 ∨ (wd g n st.1).2.1 = 126
    · have e30 : u_X44_single_30 F q.1 R d = u_X44_single_128 F q.1 R d 1 0 := by
        rw [eu_X44_single_30]; unfold du_X44_single_30
        rw [eu_X44_single_35]; unfold du_X44_single_35
        rw [jrd_in C1.1.1.1 C1.1.1.2.2, Option.bind_some, if_pos (e5.mpr c5), jrd_in C1.1.1.1 C1.1.1.2.2, Option.bind_some, v7, if_neg (by omega), eu_X44_single_57]; unfold du_X44_single_57
        rw [eu_X44_single_58]; unfold du_X44_single_58
        rw [if_neg (by decide), eu_X44_single_101]; unfold du_X44_single_101
        rw [jrd_in C1.1.1.1 C1.1.1.2.2, Option.bind_some, if_neg n1]
      have f := fin (sg_un h1 d1 d2 C1 lk M1 ⟨c5, cu⟩)
      by_cases c45 : (wd g n st.1).2.1 = 45
      · rw [if_pos c45, e30, if_neg (fun z => z.1 ⟨c5, .inl c45⟩), if_neg (fun z => by have := z.1; omega)]; exact f
      · rw [if_neg c45, Option.bind_some, if_pos (by omega), e30, if_neg (fun z => z.1 ⟨c5, by omega⟩), if_neg (fun z => by have := z.1; omega)]; exact f
    · rw [if_neg (by omega), Option.bind_some, if_neg (by omega), eu_X44_single_34]; unfold du_X44_single_34
      rw [eu_X44_single_35]; unfold du_X44_single_35
      rw [jrd_in C1.1.1.1 C1.1.1.2.2, Option.bind_some, if_pos (e5.mpr c5), jrd_in C1.1.1.1 C1.1.1.2.2, Option.bind_some, v7]
      by_cases c40 : (wd g n st.1).2.1 = 40
      · rw [if_pos c40, eu_X44_single_58]; unfold du_X44_single_58
        rw [if_pos rfl, if_neg (by decide), eu_X44_single_101]; unfold du_X44_single_101
        rw [jrd_in C1.1.1.1 C1.1.1.2.2, Option.bind_some, if_neg n1, if_neg (fun z => z.1 ⟨c5, by omega⟩), if_neg (fun z => by have := z.1; omega)]
        exact fin (sg_br h2 d1 d2 C1 lk M1 ⟨c5, c40⟩)
      · rw [if_neg c40, eu_X44_single_57]; unfold du_X44_single_57
        rw [eu_X44_single_58]; unfold du_X44_single_58
        rw [if_pos rfl, if_pos rfl, jrd_in C1.1.1.1 C1.1.1.2.2, Option.bind_some, if_neg n1, Option.bind_some, if_neg (fun z => by have := e2.mp z; omega), Option.bind_some, if_neg (fun z => by have := e3.mp z; omega), jrd_in C1.1.1.1 C1.1.1.2.2, Option.bind_some, jct_in C1.1.tt, if_pos ⟨fun z => by omega, by omega⟩]
        exact wr 5
  have n5 : ¬ jf q.1 53 R 5 = 5 := fun z => c5 (e5.mp z)
  rw [if_neg n5, eu_X44_single_34]; unfold du_X44_single_34
  rw [eu_X44_single_35]; unfold du_X44_single_35
  rw [jrd_in C1.1.1.1 C1.1.1.2.2, Option.bind_some, if_neg n5, eu_X44_single_57]; unfold du_X44_single_57
  rw [eu_X44_single_58]; unfold du_X44_single_58
  rw [if_pos rfl, if_pos rfl, jrd_in C1.1.1.1 C1.1.1.2.2, Option.bind_some]
  by_cases c1 : (wd g n st.1).1 = 1 ∨ (wd g n st.1).1 = 7
  · rw [if_pos (e1.mpr c1), if_neg (fun z => z.2 (by omega)), eu_X44_single_101]; unfold du_X44_single_101
    rw [jrd_in C1.1.1.1 C1.1.1.2.2, Option.bind_some, if_pos (e1.mpr c1), jrd_in C1.1.1.1 C1.1.1.2.2, Option.bind_some, (lk.1.2.2.1 c1).2]
    by_cases cr : rgO (nmO g (wd g n st.1).2.2.1 (wd g n st.1).2.2.2) = -1
    · rw [if_pos cr, if_neg (fun z => z.2 cr)]
      exact fin (sg_lf d2 C1 lk M1 (by omega))
    · rw [if_neg cr, if_pos ⟨c1, cr⟩, jrd_in C1.1.1.1 C1.1.1.2.2, Option.bind_some, jct_in C1.1.tt]
      exact wr 6
  have n1 : ¬ jf q.1 53 R 5 = 1 := fun z => c1 (e1.mp z)
  rw [if_neg n1, Option.bind_some]
  have e101 : u_X44_single_101 F q.1 R d 0 0 = u_X44_single_128 F q.1 R d 0 0 := by
    rw [eu_X44_single_101]; unfold du_X44_single_101
    rw [jrd_in C1.1.1.1 C1.1.1.2.2, Option.bind_some, if_neg n1]
  by_cases c2 : (wd g n st.1).1 = 2
  · rw [if_pos (e2.mpr c2), e101, if_neg (fun z => z.2 (by omega)), if_neg (fun z => c1 z.1)]
    exact fin (sg_lf d2 C1 lk M1 (by omega))
  rw [if_neg (fun z => c2 (e2.mp z)), Option.bind_some]
  by_cases c3 : (wd g n st.1).1 = 3
  · rw [if_pos (e3.mpr c3), e101, if_neg (fun z => z.2 (by omega)), if_neg (fun z => c1 z.1)]
    exact fin (sg_lf d2 C1 lk M1 (by omega))
  rw [if_neg (fun z => c3 (e3.mp z)), jrd_in C1.1.1.1 C1.1.1.2.2, Option.bind_some, jct_in C1.1.tt, if_pos ⟨fun z => c5 z.1, by omega⟩]
  exact wr 5
/-- the whole recursion -/
theorem ce_all : ∀ (k : Nat) (d : Int), 1 ≤ d → d ≤ 21 →
    (∀ l, 1 ≤ l → l ≤ 7 → 2 + 15 * (21 - d) + 2 * (7 - l) ≤ k → SuS (gr_sum k) (gp g n k) R x b a g n d l) ∧
    (∀ l, 1 ≤ l → l ≤ 7 → 1 + 15 * (21 - d) + 2 * (7 - l) ≤ k → MoS (gr_sum k) (gp g n k) R x b a g n d l) ∧
    (1 + 15 * (21 - d) ≤ k → SgS (gr_sum k) (gp g n k) R x b a g n d) ∧
    (15 + 15 * (21 - d) ≤ k → InS (gr_sum k) (gp g n k) R x b a g n d)
  | 0, d, d1, d2 => ⟨fun l _ _ h => absurd h (by omega), fun l _ _ h => absurd h (by omega), fun h => absurd h (by omega), fun h => absurd h (by omega)⟩
  | k + 1, d, d1, d2 => by
    have ih := ce_all k d d1 d2
    refine ⟨fun l l1 l7 h u st C M => ?_, fun l l1 l7 h u st lo y L C M T hl => ?_, fun h u st C M => ?_, fun h u st C M => ?_⟩
    · exact ce_sum (ih.2.2.1 (by omega)) (ih.2.1 l l1 l7 (by omega)) C M
    · show jE (mR_X44_more (gr_sum k) u R y d l) _
      rw [emR_X44_more]; unfold dmR_X44_more
      rw [eu_X44_more_6]; unfold du_X44_more_6
      exact ce_more l1 (fun j h1 h2 => ih.1 j (by omega) h2 (by omega)) _ u st y L (Nat.le_refl _) C M T hl
    · exact ce_one (fun hd => (ce_all k (d + 1) (by omega) (by omega)).2.2.1 (by omega)) (fun hd => (ce_all k (d + 1) (by omega) (by omega)).2.2.2 (by omega)) d1 d2 C M
    · exact ce_inb (ih.1 1 (by omega) (by omega) (by omega)) C M
end jCexpr7
