/-! the twin writes a file: entries; all of it -/
section jTwrite
variable {s t u : jS} {X x y n p v T l : Int} {o : Int → Int → Int → Int} {g g' : Int → Int} {Q : jS × Int → Prop} {L : List (Int × Int)}
/-- what was written from a place on -/
def PW (s u : jS) (X p : Int) (L : List (Int × Int)) : Prop := fFl s u X ∧ (∀ e ∈ L, B4 (fG u X) (p + e.1) e.2) ∧ ∀ q, (∀ e ∈ L, ¬ (p + e.1 ≤ q ∧ q < p + e.1 + 4)) → fG u X q = fG s X q
theorem PW.nil : PW s s X p [] := ⟨fFl.rfl, fun e he => absurd he List.not_mem_nil, fun _ _ => rfl⟩
theorem PW.w (h : PW s u X p L) {d : Int} (hd : ∀ e ∈ L, e.1 + 4 ≤ d ∨ d + 4 ≤ e.1) : PW s (jfil u 1000 (X + 21) (p + d) 4 (by4 v)) X p ((d, v) :: L) := by
  obtain ⟨h1, h2, h3⟩ := h
  refine ⟨h1.jw, fun e he => ?_, fun q hq => ?_⟩
  · rcases List.mem_cons.mp he with rfl | he
    · exact fG_4
    · have := hd e he
      exact (h2 e he).w (by omega)
  · have := hq (d, v) List.mem_cons_self
    simp only [] at this
    rw [fG_n (by omega)]
    exact h3 q fun e he => hq e (List.mem_cons_of_mem _ he)
theorem sr_eq : ∀ k : Nat, k < 11 → (if (k : Int) = 3 then (8 : Int) else if (k : Int) < 5 then if (k : Int) = 8 then 2 else if 8 < (k : Int) then 3 else 1 else if (k : Int) < 8 then 4 else if (k : Int) = 8 then 2 else if 8 < (k : Int) then 3 else 1) = srO k := by decide
theorem fl_eq : ∀ k : Nat, k < 11 → (if (k : Int) = 0 then (6 : Int) else if (k : Int) = 1 then 2 else if (k : Int) < 4 then 3 else if (k : Int) < 5 then 0 else if (k : Int) < 8 then 64 else 0) = flO k := by decide
theorem ea_eq : ∀ k : Nat, k < 11 → (if (k : Int) = 4 then (2 : Int) else if (k : Int) < 5 then if (k : Int) = 8 then 16 else 0 else if (k : Int) < 8 then 12 else if (k : Int) = 8 then 16 else 0) = eaO k := by decide
theorem en_lo (k : Nat) : 0 ≤ en o k ∧ en o k ≤ 1 + k := by
  have := enT_lo (T := th o) k
  unfold en; split <;> omega
theorem nLc_lo (v : vOb o) : 0 ≤ nLc o ∧ nLc o ≤ 100 := by
  obtain ⟨n1, n2, n3, n4, n5, n6⟩ := v.2.2.1
  have := cn_lo (P := isLc o) n3
  unfold nLc; omega
theorem ph_en1 (hO : tOb s X 0 o) (v : vOb o) (hL : tLO s X o) {k : Nat} (hk : k < 11) (hth : th o k = true) (p0 : 0 ≤ p) (p1 : p + 40 ≤ 8192) : jE (m_X40_writeEntry s X k p (nLc o)) fun q => PW s q.1 X p [(36, eaO k), (32, arO o k), (28, nfO o k), (24, lkO o k), (20, mnO o k), (16, bO o k), (8, flO k), (4, srO k), (0, stP (sTl (th o) k) (tl k))] := by
  obtain ⟨i1, i2, i3, i4, i5, i6⟩ := in_tot v hk
  have hq := qO_lo v 11
  have hn := nLc_lo v
  have hst : (stP (sTl (th o) k) (tl k) : Int) ≤ 1000 := by
    have h1 := stP_le (S := sTl (th o) k) (w := tl k)
    have h2 := sTl_len (T := th o) k
    omega
  have h31 := hL.2.2.2.2.2 k hk hth
  have h24 := hL.1 k hk (.inr hth)
  have h25 := hL.2.1 k hk
  have hmn : (if k = 3 then o 1 3 0 else lnO o k) = mnO o k := rfl
  rw [hmn] at h25
  have hmn0 : 0 ≤ mnO o k ∧ mnO o k ≤ 4096 := by
    have h1 := v.1 3 (by omega) (by omega)
    rw [if_pos rfl] at h1
    have h2 := lnO_lo v k
    unfold mnO; split <;> omega
  have hsr : 0 ≤ srO k ∧ srO k ≤ 8 := by
    unfold srO; repeat' split
    all_goals omega
  have hfl : 0 ≤ flO k ∧ flO k ≤ 64 := by
    unfold flO; repeat' split
    all_goals omega
  have hea : 0 ≤ eaO k ∧ eaO k ≤ 16 := by
    unfold eaO; repeat' split
    all_goals omega
  rw [em_X40_writeEntry]; unfold dm_X40_writeEntry
  have e15 : u_X40_writeEntry_15 s X k p (nLc o) = u_X40_writeEntry_16 s X k p (nLc o) 0 := by rw [eu_X40_writeEntry_15]; rfl
  have e16 : (if (k : Int) < 5 then u_X40_writeEntry_15 s X k p (nLc o) else if (k : Int) < 8 then u_X40_writeEntry_16 s X k p (nLc o) 1 else u_X40_writeEntry_15 s X k p (nLc o)) = u_X40_writeEntry_16 s X k p (nLc o) (if 5 ≤ k ∧ k < 8 then 1 else 0) := by
    rw [e15]
    by_cases c1 : (k : Int) < 5
    · rw [if_pos c1, if_neg (by omega)]
    · rw [if_neg c1]
      by_cases c2 : (k : Int) < 8
      · rw [if_pos c2, if_pos (by omega)]
      · rw [if_neg c2, if_neg (by omega)]
  rw [e16, eu_X40_writeEntry_16]; unfold du_X40_writeEntry_16
  have pz : p = p + 0 := by omega
  rw [jlt_in (by omega) (by omega), Option.bind_some, h31, t_w4 p0 (by omega) (jin_of (by omega) (by omega)), Option.bind_some, e_X40_sortOf, sr_eq k hk, Option.bind_some, W32_in (z := p + 4) (by omega) (by omega), t_w4 (by omega) (by omega) (jin_of (by omega) (by omega)), Option.bind_some, e_X40_flagsOf, fl_eq k hk, Option.bind_some, W32_in (z := p + 8) (by omega) (by omega), t_w4 (by omega) (by omega) (jin_of (by omega) (by omega)), Option.bind_some]
  have w1 : PW s (jfil (jfil (jfil s 1000 (X + 21) p 4 (by4 (stP (sTl (th o) k) (tl k) : Int))) 1000 (X + 21) (p + 4) 4 (by4 (srO k))) 1000 (X + 21) (p + 8) 4 (by4 (flO k))) X p [(8, flO k), (4, srO k), (0, stP (sTl (th o) k) (tl k))] := by
    have := ((PW.nil (s := s) (X := X) (p := p)).w (d := 0) (v := (stP (sTl (th o) k) (tl k) : Int)) (by simp)).w (d := 4) (v := srO k) (by simp)
    rw [← pz] at this
    exact this.w (by simp)
  simp only []
  generalize jfil (jfil (jfil s 1000 (X + 21) p 4 (by4 (stP (sTl (th o) k) (tl k) : Int))) 1000 (X + 21) (p + 4) 4 (by4 (srO k))) 1000 (X + 21) (p + 8) 4 (by4 (flO k)) = u at w1 ⊢
  rw [jlt_in (by omega) (by omega), Option.bind_some, w1.1.r (by omega), h24, W32_in (z := p + 16) (by omega) (by omega), t_w4 (by omega) (by omega) (jin_of (by omega) (by omega)), Option.bind_some, jlt_in (by omega) (by omega), Option.bind_some, jfl_neg (by omega), w1.1.r (by omega), h25, W32_in (z := p + 20) (by omega) (by omega), t_w4 (by omega) (by omega) (jin_of (by omega) (by omega)), Option.bind_some]
  have w2 := (w1.w (d := 16) (v := bO o k) (by simp)).w (d := 20) (v := mnO o k) (by simp)
  generalize jfil (jfil u 1000 (X + 21) (p + 16) 4 (by4 (bO o k))) 1000 (X + 21) (p + 20) 4 (by4 (mnO o k)) = w at w2 ⊢
  simp only []
  -- the last four
  have l196 : ∀ u, PW s u X p [(28, nfO o k), (24, lkO o k), (20, mnO o k), (16, bO o k), (8, flO k), (4, srO k), (0, stP (sTl (th o) k) (tl k))] → ∀ a : Int, a = arO o k → 0 ≤ a → a ≤ 64 → jE (u_X40_writeEntry_196 u X k p a (W32 (p + 32)) X) fun q => PW s q.1 X p [(36, eaO k), (32, arO o k), (28, nfO o k), (24, lkO o k), (20, mnO o k), (16, bO o k), (8, flO k), (4, srO k), (0, stP (sTl (th o) k) (tl k))] := by
    intro u w3 a ha a0 a1
    rw [eu_X40_writeEntry_196]; unfold du_X40_writeEntry_196
    rw [W32_in (z := p + 32) (by omega) (by omega), t_w4 (by omega) (by omega) (jin_of (by omega) (by omega)), Option.bind_some, e_X40_eachOf, ea_eq k hk, Option.bind_some, W32_in (z := p + 36) (by omega) (by omega), t_w4 (by omega) (by omega) (jin_of (by omega) (by omega)), Option.bind_some, ha]
    exact jS_end ((w3.w (d := 32) (v := arO o k) (by simp)).w (d := 36) (v := eaO k) (by simp))
  have l154 : ∀ u, PW s u X p [(24, lkO o k), (20, mnO o k), (16, bO o k), (8, flO k), (4, srO k), (0, stP (sTl (th o) k) (tl k))] → ∀ a : Int, a = nfO o k → 0 ≤ a → a ≤ 1000 → jE (u_X40_writeEntry_154 u X k p a (W32 (p + 28)) X) fun q => PW s q.1 X p [(36, eaO k), (32, arO o k), (28, nfO o k), (24, lkO o k), (20, mnO o k), (16, bO o k), (8, flO k), (4, srO k), (0, stP (sTl (th o) k) (tl k))] := by
    intro u w3 a ha a0 a1
    rw [eu_X40_writeEntry_154]; unfold du_X40_writeEntry_154
    rw [W32_in (z := p + 28) (by omega) (by omega), t_w4 (by omega) (by omega) (jin_of (by omega) (by omega)), Option.bind_some]
    rw [ha]
    have w4 := w3.w (d := 28) (v := nfO o k) (by simp)
    generalize jfil u 1000 (X + 21) (p + 28) 4 (by4 (nfO o k)) = u' at w4 ⊢
    simp only []
    by_cases c4 : (k : Int) < 4
    · have h3 := (hO.1 k (by omega) c4).2
      rw [z4] at h3
      have ea : o 1 k 1 = arO o k := by
        unfold arO alO
        by_cases c3 : k = 3
        · rw [if_pos c3, c3]; rfl
        · rw [if_neg c3, if_pos (by omega)]
      have hp := (v.1 k (by omega) c4).2.2.lo
      rw [if_pos c4, jlt_in (by omega) (by omega), Option.bind_some, w4.1.r (by omega), h3]
      exact l196 u' w4 _ ea (by omega) (by omega)
    rw [if_neg c4]
    by_cases c5 : (k : Int) = 4
    · rw [if_pos c5]
      exact l196 u' w4 _ (by have : k = 4 := by omega
                             subst this; rfl) (by omega) (by omega)
    rw [if_neg c5]
    by_cases c6 : (k : Int) < 9
    · rw [if_pos c6]
      exact l196 u' w4 _ (by unfold arO alO; rw [if_neg (by omega), if_neg (by omega), if_neg (by omega), if_pos (by omega)]) (by omega) (by omega)
    · rw [if_neg c6]
      exact l196 u' w4 _ (by unfold arO alO; rw [if_neg (by omega), if_neg (by omega), if_neg (by omega), if_neg (by omega)]) (by omega) (by omega)
  have l117 : ∀ a : Int, a = lkO o k → 0 ≤ a → a ≤ 100 → jE (u_X40_writeEntry_117 w X k p (nLc o) (if 5 ≤ k ∧ k < 8 then 1 else 0) a (W32 (p + 24)) X) fun q => PW s q.1 X p [(36, eaO k), (32, arO o k), (28, nfO o k), (24, lkO o k), (20, mnO o k), (16, bO o k), (8, flO k), (4, srO k), (0, stP (sTl (th o) k) (tl k))] := by
    intro a ha a0 a1
    rw [eu_X40_writeEntry_117]; unfold du_X40_writeEntry_117
    rw [W32_in (z := p + 24) (by omega) (by omega), t_w4 (by omega) (by omega) (jin_of (by omega) (by omega)), Option.bind_some]
    rw [ha]
    have w4 := w2.w (d := 24) (v := lkO o k) (by simp)
    generalize jfil w 1000 (X + 21) (p + 24) 4 (by4 (lkO o k)) = u' at w4 ⊢
    simp only []
    by_cases c : 5 ≤ k ∧ k < 8
    · rw [if_pos c, if_neg (by omega), W32_in (by omega) (by omega), jlt_in (by omega) (by omega), Option.bind_some, w4.1.r (by omega)]
      have h26 := hL.2.2.1 (k - 5) (by omega)
      rw [show ((k - 5 : Nat) : Int) = (k : Int) - 5 by omega] at h26
      rw [h26]
      have hen := en_lo (o := o) (k - 5)
      exact l154 u' w4 _ (by unfold nfO; rw [if_pos c]) (by omega) (by omega)
    · rw [if_neg c, if_pos rfl]
      by_cases c8 : (k : Int) = 8
      · rw [if_pos c8, W32_in (by omega) (by omega)]
        exact l154 u' w4 _ (by unfold nfO; rw [if_neg c, if_pos (by omega)]) (by omega) (by omega)
      · rw [if_neg c8]
        exact l154 u' w4 _ (by unfold nfO; rw [if_neg c, if_neg (by omega)]) (by omega) (by omega)
  by_cases c : 5 ≤ k ∧ k < 8
  · have h26 := hL.2.2.1 8 (by omega)
    rw [if_pos c] at l117 ⊢
    rw [if_neg (by omega), jlt_in (by omega) (by omega), Option.bind_some, w2.1.r (by omega), show jf s 1000 (X + 26) 8 = en o 8 from h26]
    have hen := en_lo (o := o) 8
    exact l117 _ (by unfold lkO; rw [if_pos c]) (by omega) (by omega)
  · rw [if_neg c] at l117 ⊢
    rw [if_pos rfl]
    by_cases c8 : (k : Int) = 8
    · have h26 := hL.2.2.1 9 (by omega)
      rw [if_pos c8, jlt_in (by omega) (by omega), Option.bind_some, w2.1.r (by omega), show jf s 1000 (X + 26) 9 = en o 9 from h26]
      have hen := en_lo (o := o) 9
      exact l117 _ (by unfold lkO; rw [if_neg c, if_pos (by omega)]) (by omega) (by omega)
    · rw [if_neg c8]
      exact l117 _ (by unfold lkO; rw [if_neg c, if_neg (by omega)]) (by omega) (by omega)
theorem enT_mono {T : Nat → Bool} {i j : Nat} (h : i ≤ j) : enT T i ≤ enT T j := by
  induction j with
  | zero => have : i = 0 := by omega
            subst this; omega
  | succ j ih =>
    by_cases e : i = j + 1
    · subst e; omega
    · have := ih (by omega)
      have h1 : enT T (j + 1) = enT T j + (if T j then 1 else 0) := rfl
      split at h1 <;> omega
theorem en_pos {k : Nat} (h : th o k = true) : en o k = enT (th o) k ∧ enT (th o) (k + 1) = en o k + 1 := by
  have h1 : enT (th o) (k + 1) = enT (th o) k + (if th o k then 1 else 0) := rfl
  rw [if_pos h] at h1
  have h2 : en o k = enT (th o) k := by unfold en; rw [if_pos h]
  exact ⟨h2, by omega⟩
theorem aEn_lo (v : vOb o) {k : Nat} (hk : k < 11) (h : th o k = true) : tabO o + 40 ≤ aEn o k ∧ aEn o k + 40 ≤ totO o := by
  obtain ⟨a, b⟩ := en_pos h
  have h1 := enT_lo (T := th o) k
  have h2 := enT_mono (T := th o) (i := k + 1) (j := 11) (by omega)
  have h3 : totO o = tabO o + 40 * enT (th o) 11 := rfl
  have h4 : aEn o k = tabO o + 40 * en o k := rfl
  omega
theorem aEn_ne (v : vOb o) {j k : Nat} (hj : th o j = true) (hk : th o k = true) (h : j < k) : aEn o j + 40 ≤ aEn o k := by
  obtain ⟨a, b⟩ := en_pos hj
  obtain ⟨c, d⟩ := en_pos hk
  have h2 := enT_mono (T := th o) (i := j + 1) (j := k) (by omega)
  have h4 : aEn o k = tabO o + 40 * en o k := rfl
  have h5 : aEn o j = tabO o + 40 * en o j := rfl
  omega
theorem pEn.of {k : Nat} (h : pEn o g k) (e : ∀ p, aEn o k ≤ p → p < aEn o k + 40 → g' p = g p) : pEn o g' k := by
  obtain ⟨r1, r2, r3, r4, r5, r6, r7, r8, r9, r10⟩ := h
  exact ⟨r1.of fun q q0 q1 => e q (by omega) (by omega), r2.of fun q q0 q1 => e q (by omega) (by omega), r3.of fun q q0 q1 => e q (by omega) (by omega), r4.of fun q q0 q1 => e q (by omega) (by omega), r5.of fun q q0 q1 => e q (by omega) (by omega), r6.of fun q q0 q1 => e q (by omega) (by omega), r7.of fun q q0 q1 => e q (by omega) (by omega), r8.of fun q q0 q1 => e q (by omega) (by omega), r9.of fun q q0 q1 => e q (by omega) (by omega), r10.of fun q q0 q1 => e q (by omega) (by omega)⟩
theorem ph_en (hO : tOb s X 0 o) (v : vOb o) (hL : tLO s X o) (hT : totO o ≤ 8192) (hz : ∀ p, tabO o + 40 ≤ p → p < totO o → fG s X p = 0) (cont : ∀ s1, fFl s s1 X → (∀ p, ¬ (tabO o + 40 ≤ p ∧ p < totO o) → fG s1 X p = fG s X p) → (∀ k : Nat, k < 11 → th o k = true → pEn o (fG s1 X) k) → jE (u_X40_write_348 s1 X) Q) : jE (u_X40_write_303 s X (tabO o) (nLc o)) Q := by
  have hq := qO_lo v 11
  obtain ⟨t1, t2, t3, t4⟩ := tab_lo v
  rw [eu_X40_write_303]; unfold du_X40_write_303
  rw [eu_X40_write_306]; unfold du_X40_write_306
  refine jS_for (fun k u => fFl s u X ∧ (∀ p, ¬ (tabO o + 40 ≤ p ∧ p < totO o) → fG u X p = fG s X p) ∧ (∀ p, (∀ i : Nat, i < k → i < 11 → th o i = true → ¬ (aEn o i ≤ p ∧ p < aEn o i + 40)) → fG u X p = fG s X p) ∧ ∀ i : Nat, i < k → i < 11 → th o i = true → pEn o (fG u X) i) (fun k => [X, tabO o, nLc o, k]) 0 11 (by omega) ⟨fFl.rfl, fun _ _ => rfl, fun _ _ => rfl, fun i i0 i1 => by omega⟩ (fun k u k0 k1 ⟨e1, e2, e3, e4⟩ => ?_) (fun u ⟨e1, e2, e3, e4⟩ => ?_)
  · show jE (b_X40_write_306 u X (tabO o) (nLc o) k) _
    unfold b_X40_write_306
    have h3 := (hL.fl e1).2.2.1 k.toNat (by omega)
    rw [nt k0] at h3
    have hen := en_lo (o := o) k.toNat
    rw [if_pos k1, jlt_in k0 k1, Option.bind_some, h3]
    by_cases c : th o k.toNat = true
    · have ha := aEn_lo v (k := k.toNat) (by omega) c
      have hp := en_pos c
      have hp1 := enT_lo (T := th o) k.toNat
      have ea : aEn o k.toNat = tabO o + 40 * en o k.toNat := rfl
      rw [if_pos (by omega), Option.bind_some, W32_in (z := 40 * en o k.toNat) (by omega) (by omega), W32_in (by omega) (by omega), ← ea]
      have hen1 := ph_en1 (hO.fl e1 v) v (hL.fl e1) (k := k.toNat) (p := aEn o k.toNat) (by omega) c (by omega) (by omega)
      rw [nt k0] at hen1
      refine jS_call hen1 fun q ⟨q1, q2, q3⟩ => ?_
      have hout : ∀ p, ¬ (aEn o k.toNat ≤ p ∧ p < aEn o k.toNat + 40) → fG q.1 X p = fG u X p := fun p hp => q3 p (by simp; omega)
      rw [eu_X40_write_342]; unfold du_X40_write_342
      rw [W32_in (by omega) (by omega)]
      refine jS_end ⟨rfl, e1.trans q1, fun p hp => ?_, fun p hp => ?_, fun i i0 i1 i2 => ?_⟩
      · show fG q.1 X p = _
        rw [hout p (by omega)]; exact e2 p hp
      · show fG q.1 X p = _
        rw [hout p (hp k.toNat (by omega) (by omega) c)]
        exact e3 p fun i i0 i1 i2 => hp i (by omega) i1 i2
      · by_cases ei : i = k.toNat
        · subst ei
          have hz4 : ∀ d : Int, 12 ≤ d → d < 16 → fG q.1 X (aEn o k.toNat + d) = 0 := fun d d0 d1 => by
            rw [q3 _ (by simp; omega), e3 _ fun j j0 j1 j2 => ?_, hz _ (by omega) (by omega)]
            have := aEn_ne v j2 c (by omega)
            omega
          have m := fun e he => q2 e he
          refine ⟨?_, m (4, srO k.toNat) (by simp), m (8, flO k.toNat) (by simp), ?_, m (16, bO o k.toNat) (by simp), m (20, mnO o k.toNat) (by simp), m (24, lkO o k.toNat) (by simp), m (28, nfO o k.toNat) (by simp), m (32, arO o k.toNat) (by simp), m (36, eaO k.toNat) (by simp)⟩
          · have := m (0, (stP (sTl (th o) k.toNat) (tl k.toNat) : Int)) (by simp)
            rw [show aEn o k.toNat + ((0 : Int), (stP (sTl (th o) k.toNat) (tl k.toNat) : Int)).1 = aEn o k.toNat from Int.add_zero _] at this
            exact this
          · refine ⟨?_, ?_, ?_, ?_⟩
            · rw [hz4 12 (by omega) (by omega)]; rfl
            · rw [Int.add_assoc, hz4 (12 + 1) (by omega) (by omega)]; rfl
            · rw [Int.add_assoc, hz4 (12 + 2) (by omega) (by omega)]; rfl
            · rw [Int.add_assoc, hz4 (12 + 3) (by omega) (by omega)]; rfl
        · have := aEn_ne v i2 c (by omega)
          exact (e4 i (by omega) i1 i2).of fun p p0 p1 => hout p (by omega)
    · have h0 := (en_z k.toNat).mpr c
      rw [if_neg (by omega), eu_X40_write_342]; unfold du_X40_write_342
      rw [W32_in (by omega) (by omega)]
      refine jS_end ⟨rfl, e1, e2, fun p hp => e3 p fun i i0 i1 i2 => hp i (by omega) i1 i2, fun i i0 i1 i2 => e4 i ?_ i1 i2⟩
      have : ¬ i = k.toNat := fun e => c (by rw [← e]; exact i2)
      omega
  · show jE (b_X40_write_306 u X (tabO o) (nLc o) 11) _
    unfold b_X40_write_306
    rw [if_neg (by omega)]
    refine jS_inr ?_
    exact cont u e1 e2 fun k hk c => e4 k (by omega) hk c
/-- a table of strings into the file -/
theorem fG_row {S : List Int} {b : Int} {i : Nat} (hi : i < S.length) : fG (jfil s 1000 (X + 21) b S.length (fun i => S.getD i.toNat 0)) X (b + i) = S.getD i 0 := by
  rw [fG_w, if_pos (by omega), show b + (i : Int) - b = i by omega]; rfl
theorem ph_tis (hL : tLO s X o) (v : vOb o) (hT : totO o ≤ 8192) (hS : tSt s X (sTl (th o) 11)) : u_X40_write_224 s X T l (sTl (th o) 11).length 0 = u_X40_write_259 (jfil s 1000 (X + 21) (bO o 10) (sTl (th o) 11).length (fun i => (sTl (th o) 11).getD i.toNat 0)) X T l := by
  obtain ⟨i1, i2, i3, i4, i5, i6⟩ := in_tot2 v (k := 10) (k' := 11) (by omega) rfl
  have l10 : lnO o 10 = (sTl (th o) 11).length := rfl
  have hl := sTl_len (T := th o) 11
  have hb : jf s 1000 (X + 24) 10 = bO o 10 := hL.1 10 (by omega) (.inr (th_low (by omega)))
  rw [eu_X40_write_224]; unfold du_X40_write_224
  refine jloop_fill (fun k => [X, T, l, (sTl (th o) 11).length, k]) s 1000 (X + 21) (bO o 10) (sTl (th o) 11).length (fun i => (sTl (th o) 11).getD i.toNat 0) (by omega) (fun k k0 k1 => ?_) ?_
  · show b_X40_write_224 _ X T l _ k = _
    unfold b_X40_write_224
    rw [if_pos k1, jlt_in (by omega) (by omega), Option.bind_some, jfl_neg (by omega), hb, jlt_in k0 (by omega), Option.bind_some, jfl_neg (by omega), jS_row hS.2 k0 k1, W32_in (by omega) (by omega), jst_in (by omega) (by omega), Option.bind_some, W32_in (by omega) (by omega)]
  · show b_X40_write_224 _ X T l _ (sTl (th o) 11).length = _
    unfold b_X40_write_224
    rw [if_neg (by omega)]
theorem ph_nms (hL : tLO s X o) (v : vOb o) (hT : totO o ≤ 8192) (hS : tSt s X (sSy o (o 2 1 0).toNat)) : u_X40_write_268 s X T l (sSy o (o 2 1 0).toNat).length 0 = u_X40_write_303 (jfil s 1000 (X + 21) (bO o 9) (sSy o (o 2 1 0).toNat).length (fun i => (sSy o (o 2 1 0).toNat).getD i.toNat 0)) X T l := by
  obtain ⟨n1, n2, n3, n4, n5, n6⟩ := v.2.2.1
  obtain ⟨i1, i2, i3, i4, i5, i6⟩ := in_tot2 v (k := 9) (k' := 10) (by omega) rfl
  have l9 : lnO o 9 = (sSy o (o 2 1 0).toNat).length := rfl
  have hl := sSy_len (o := o) (o 2 1 0).toNat v.2.2.2.2.1 (by omega)
  have hb : jf s 1000 (X + 24) 9 = bO o 9 := hL.1 9 (by omega) (.inr (th_low (by omega)))
  rw [eu_X40_write_268]; unfold du_X40_write_268
  refine jloop_fill (fun k => [X, T, l, (sSy o (o 2 1 0).toNat).length, k]) s 1000 (X + 21) (bO o 9) (sSy o (o 2 1 0).toNat).length (fun i => (sSy o (o 2 1 0).toNat).getD i.toNat 0) (by omega) (fun k k0 k1 => ?_) ?_
  · show b_X40_write_268 _ X T l _ k = _
    unfold b_X40_write_268
    rw [if_pos k1, jlt_in (by omega) (by omega), Option.bind_some, jfl_neg (by omega), hb, jlt_in k0 (by omega), Option.bind_some, jfl_neg (by omega), jS_row hS.2 k0 k1, W32_in (by omega) (by omega), jst_in (by omega) (by omega), Option.bind_some, W32_in (by omega) (by omega)]
  · show b_X40_write_268 _ X T l _ (sSy o (o 2 1 0).toNat).length = _
    unfold b_X40_write_268
    rw [if_neg (by omega)]
/-- what writing writes -/
def fWr (s t : jS) (X : Int) : Prop := jSm s t ∧ ∀ c a k, ¬ (c = 1000 ∧ (a = X + 21 ∨ X + 24 ≤ a ∧ a ≤ X + 31)) → ¬ (c = 44 ∧ a = X ∧ (k = 22 ∨ k = 30 ∨ k = 32 ∨ k = 40)) → jf t c a k = jf s c a k
theorem fWr.trans (h : fWr s t X) (g : fWr t u X) : fWr s u X := ⟨h.1.trans g.1, fun c a k p q => (g.2 c a k p q).trans (h.2 c a k p q)⟩
theorem fLay.wr (h : fLay s t X) : fWr s t X := ⟨h.1, fun c a k p q => h.2 c a k (by omega) (by omega)⟩
theorem fFl.wr (h : fFl s t X) : fWr s t X := ⟨h.1, fun c a k p q => h.2 c a k (by omega)⟩
theorem fStr.wr (h : fStr s t X) : fWr s t X := h.lay.wr
theorem fWr.r (h : fWr s t X) {a : Int} (e : ¬ (a = X + 21 ∨ X + 24 ≤ a ∧ a ≤ X + 31)) (k : Int) : jf t 1000 a k = jf s 1000 a k := h.2 _ _ _ (by omega) (by omega)
theorem tOb.wr (h : tOb s X 0 o) (g : fWr s t X) (v : vOb o) : tOb t X 0 o := h.keep (fun a k a0 a1 => g.r (by omega) k) v
theorem pTi.wr (h : pTi s X) (g : fWr s t X) : pTi t X := h.keep fun a k e => g.r (by omega) k
theorem tLO.str (h : tLO s X o) (g : fStr s t X) (h1 : ∀ x, 0 ≤ x → x < o 2 1 0 → jf t 1000 (X + 29) x = sAt o x) (h2 : ∀ k : Nat, k < 11 → th o k = true → jf t 1000 (X + 31) k = stP (sTl (th o) k) (tl k)) : tLO t X o := by
  obtain ⟨a1, a2, a3, a4, a5, a6⟩ := h
  exact ⟨fun k hk c => by rw [g.r (by omega)]; exact a1 k hk c, fun k hk => by rw [g.r (by omega)]; exact a2 k hk, fun k hk => by rw [g.r (by omega)]; exact a3 k hk, by rw [g.i (by omega)]; exact a4, fun x x0 x1 => ⟨by rw [g.r (by omega)]; exact (a5 x x0 x1).1, h1 x x0 x1⟩, h2⟩
end jTwrite
