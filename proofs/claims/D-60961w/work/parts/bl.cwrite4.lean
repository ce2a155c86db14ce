/-! the component writes a file: names of parts, entries -/
section jCwrite4
variable {s t u : jS} {N L V p n v f a b x y lo : Int} {g g' : Int → Int} {o : Int → Int → Int → Int} {K : Nat} {Q : jS × Int → Prop} {T : Nat → Bool}
theorem jFx.gw (k : jFx s t lo n) : jGw s t 0 0 (fun a => lo ≤ a ∧ a < lo + n) := by
  obtain ⟨⟨⟨e1, e2, e3, e4, e5, e6, e7⟩, e8⟩, -⟩ := k
  exact ⟨⟨by omega, by omega, by omega, e5, e6, e7⟩, fun a _ => ⟨by rw [e1], by rw [e2]⟩, fun c a j _ h => e8 c a j (by omega)⟩
theorem pCon.fx (h : pCon s) (k : jFx s t lo n) (hk : ∀ a, lo ≤ a → a < lo + n → jK s a < 3000) : pCon t := h.keep k.gw fun a z => hk a z.1 z.2
theorem T40 (h : jTt s 40 V) : ∀ a, V ≤ a → a < V + 8 → jK s a < 3000 := by
  have k0 : jK s V = 24 := h.zz.2.2.1
  have f0 := h.fld (k := 0) (o := 1) (t' := 39) (by decide)
  have f1 := h.fld (k := 1) (o := 3) (t' := 1048589) (by decide)
  have f2 := h.fld (k := 2) (o := 4) (t' := 1048589) (by decide)
  have f3 := h.fld (k := 3) (o := 5) (t' := 1048589) (by decide)
  have f4 := h.fld (k := 4) (o := 6) (t' := 1048589) (by decide)
  have f5 := h.fld (k := 5) (o := 7) (t' := 2097169) (by decide)
  have f6 := f0.2.fld (k := 0) (o := 1) (t' := 2097152) (by decide)
  have k1 : jK s (V + 1) = 23 := f0.2.zz.2.2.1
  have k2 : jK s (V + 1 + 1) = 1001 := f6.2.zz.2.2.1
  have k3 : jK s (V + 3) = 1000 := f1.2.zz.2.2.1
  have k4 : jK s (V + 4) = 1000 := f2.2.zz.2.2.1
  have k5 : jK s (V + 5) = 1000 := f3.2.zz.2.2.1
  have k6 : jK s (V + 6) = 1000 := f4.2.zz.2.2.1
  have k7 : jK s (V + 7) = 1001 := f5.2.zz.2.2.1
  intro a a0 a1
  have : a = V ∨ a = V + 1 ∨ a = V + 1 + 1 ∨ a = V + 3 ∨ a = V + 4 ∨ a = V + 5 ∨ a = V + 6 ∨ a = V + 7 := by omega
  rcases this with e | e | e | e | e | e | e | e <;> rw [e] <;> omega
theorem T40L (h : jTt s 40 V) : 0 ≤ V + 7 ∧ jK s (V + 7) = 1001 ∧ jN s (V + 7) = 16 := by
  have f5 := h.fld (k := 5) (o := 7) (t' := 2097169) (by decide)
  exact ⟨f5.2.zz.1, f5.2.zz.2.2.1, f5.2.zz.2.2.2 (by decide) (by decide)⟩
theorem tl_ok : ∀ k : Nat, k < 11 → cS (171 + k) = tl k ∧ (tl k).length ≤ 16 ∧ (tl k).all (fun c => decide (0 < c ∧ c < 128)) = true := by decide
theorem tl_at {k i : Nat} (hk : k < 11) (hi : i < (tl k).length) : 0 < (tl k).getD i 0 ∧ (tl k).getD i 0 < 128 := by
  have h := (tl_ok k hk).2.2
  rw [List.all_eq_true] at h
  have e : (tl k).getD i 0 = (tl k)[i] := by simp [List.getD_eq_getElem?_getD, hi]
  rw [e]
  have := h _ (List.getElem_mem hi)
  simpa using this
theorem r_nameOf {k : Nat} (hk : k < 11) : m_X13_nameOf s ((k : Int) + 1) = some (jc s ((171 + k : Nat) : Int)) := by
  rw [em_X13_nameOf]; unfold dm_X13_nameOf
  have : k = 0 ∨ k = 1 ∨ k = 2 ∨ k = 3 ∨ k = 4 ∨ k = 5 ∨ k = 6 ∨ k = 7 ∨ k = 8 ∨ k = 9 ∨ k = 10 := by omega
  rcases this with rfl | rfl | rfl | rfl | rfl | rfl | rfl | rfl | rfl | rfl | rfl <;> rfl
theorem c_named (ht : jTt u 40 V) (hC : pCon u) {k : Nat} (hk : k < 11) (cont : ∀ t, jFx u t (V + 7) 1 → pLt t (V + 7) (tl k) → jE (m_X19_string t (V + 1) (V + 7) (tl k).length (jf u 1000 (V + 4) 11)) Q) : jE (m_X20_named u V ((k : Int) + 1)) Q := by
  obtain ⟨o1, o2, o3⟩ := tl_ok k hk
  obtain ⟨l1, l2, l3⟩ := T40L ht
  have hK7 : ∀ a, V + 7 ≤ a → a < V + 7 + 1 → jK u a < 3000 := fun a a0 a1 => T40 ht a (by omega) (by omega)
  rw [em_X20_named]; unfold dm_X20_named
  rw [r_nameOf hk, Option.bind_some, eu_X20_named_7]; unfold du_X20_named_7
  have str : ∀ t, jFx u t (V + 7) 1 → pSg t (jc u ((171 + k : Nat) : Int)) (tl k) := fun t kt => by
    have := ((hC.fx kt hK7).1 (171 + k) (by omega)).1
    rw [o1] at this
    rw [show jc u = jc t from kt.gw.c.symm]; exact this
  refine jS_for (fun i t => jFx u t (V + 7) 1 ∧ ∀ j : Nat, (j : Int) < i → j < (tl k).length → jf t 1001 (V + 7) j = (tl k).getD j 0) (fun i => [V, jc u ((171 + k : Nat) : Int), i]) 0 (tl k).length (by omega) ⟨jFx.rfl, fun j hj => by omega⟩ (fun i t i0 i1 ⟨e1, e2⟩ => ?_) (fun t ⟨e1, e2⟩ => ?_)
  · show jE (b_X20_named_7 t V _ i) _
    unfold b_X20_named_7
    have hs := str t e1
    have hc := tl_at hk (i := i.toNat) (by omega)
    rw [s_len hs (by omega), Option.bind_some, if_pos i1, s_charAt hs i0 i1, Option.bind_some, W8_W8, show sb ((tl k).getD i.toNat 0 % 256) = (tl k).getD i.toNat 0 by unfold sb; rw [if_pos (by omega)]; omega, jst_in i0 (by omega), Option.bind_some, W32_in (by omega) (by omega)]
    refine jS_end ⟨rfl, e1.jp rfl (by omega) (by omega), fun j hj hj1 => ?_⟩
    by_cases c : (j : Int) = i
    · rw [jf_pos ⟨rfl, rfl, c⟩]; congr 1; omega
    · rw [jf_neg (by omega)]; exact e2 j (by omega) hj1
  · show jE (b_X20_named_7 t V _ _) _
    unfold b_X20_named_7
    have hs := str t e1
    rw [s_len hs (by omega), Option.bind_some, if_neg (by omega), eu_X20_named_33]; unfold du_X20_named_33
    rw [s_len hs (by omega), Option.bind_some, jlt_in (by omega) (by omega), Option.bind_some, e1.F (by omega)]
    refine jS_inr ?_
    have := cont t e1 ⟨⟨l1, by rw [e1.K]; exact l2, by rw [e1.N, l3]; omega⟩, fun i hi => ⟨e2 i (by omega) hi, (tl_at hk hi).1, (tl_at hk hi).2⟩⟩
    obtain ⟨q, e, hq⟩ := this
    rw [e, Option.bind_some]
    exact jS_end hq
theorem sTl_G (k : Nat) : stG (sTl T k) := by
  induction k with
  | zero => exact ⟨Nat.zero_lt_one, rfl⟩
  | succ k ih =>
    show stG (if T k then stN (sTl T k) (tl k) else sTl T k)
    split
    · exact stN_G ih
    · exact ih
theorem sTl_pre {i j : Nat} (h : i ≤ j) : ∃ R, sTl T j = sTl T i ++ R := by
  induction j with
  | zero => have : i = 0 := by omega
            subst this; exact ⟨[], (List.append_nil _).symm⟩
  | succ j ih =>
    by_cases e : i = j + 1
    · subst e; exact ⟨[], (List.append_nil _).symm⟩
    · obtain ⟨R, hR⟩ := ih (by omega)
      show ∃ R, (if T j then stN (sTl T j) (tl j) else sTl T j) = _
      split
      · obtain ⟨R', hR'⟩ := stN_pre (S := sTl T j) (w := tl j)
        exact ⟨R ++ R', by rw [hR', hR, List.append_assoc]⟩
      · exact ⟨R, hR⟩
/-- a title that is there stands where it was put, whatever comes behind -/
theorem sTl_st {k : Nat} (hk : k < 11) (hT : T k = true) (R : List Int) : stP (sTl T 11 ++ R) (tl k) = stP (sTl T k) (tl k) ∧ stP (sTl T k) (tl k) < (sTl T 11).length := by
  obtain ⟨R1, h1⟩ := sTl_pre (T := T) (i := k + 1) (j := 11) (by omega)
  have hs : sTl T (k + 1) = stN (sTl T k) (tl k) := by
    show (if T k then stN (sTl T k) (tl k) else sTl T k) = _
    rw [if_pos hT]
  obtain ⟨a1, a2⟩ := stN_at (sTl_G (T := T) k) (w := tl k) fun i hi => by have := tl_at hk hi; omega
  rw [← hs] at a1 a2
  have := (stAt_iff.mp a1).1
  refine ⟨by rw [h1, List.append_assoc]; exact stP_ext a1 a2, ?_⟩
  rw [h1, List.length_append]; omega
theorem c_names (h : wH s V b o) (hC : pCon s) (S : wS s u V o g 10 (qO o 10)) : jE (m_X20_names u V) fun q => ∃ g', wS s q.1 V o g' 11 (qO o 11) ∧ (qO o 11 ≤ 8193 → (∀ i, i < qO o 10 → g' i = g i) ∧ ∀ i : Nat, i < (sTl (th o) 11).length → g' (bO o 10 + i) = (sTl (th o) 11).getD i 0) := by
  have v := h.2.2.2.1
  obtain ⟨i1, i2, i3, i4, i5, i6⟩ := in_tot2 v (k := 10) (k' := 11) (by omega) rfl
  have el : lnO o 10 = (sTl (th o) 11).length := rfl
  have b10 : bO o 10 = qO o 10 := by
    unfold bO; rw [if_pos (th_low (by omega))]
    exact rU_eq (show (0 : Int) < 1 by decide) (Int.emod_one _)
  have hq := qO_lo v 11
  rw [em_X20_names]; unfold dm_X20_names
  refine jS_call (c_begin S (by omega) (by omega) (th_low (by omega)) rfl (show (1 : Int) = alO o 10 from rfl) (by omega) (by omega)) fun q ⟨g1, k1, w1, e1, t1, f1, y1, y2⟩ => ?_
  have M0 := wM.of (K := 10) k1 w1 e1 t1 f1
  refine jS_call (c_p1 M0.2.1 (by omega) 0) fun q1 ⟨a1, b1⟩ => ?_
  have M1 := M0.pb a1 b1 (by omega)
  rw [eu_X20_names_17]; unfold du_X20_names_17
  refine jS_for (fun k t => ∃ g3, wM s t V o g3 10 (bO o 10 + (sTl (th o) (k - 1).toNat).length) ∧ (bO o 10 + (sTl (th o) (k - 1).toNat).length ≤ 8193 → (∀ i, i < qO o 10 → g3 i = g i) ∧ ∀ i : Nat, i < (sTl (th o) (k - 1).toNat).length → g3 (bO o 10 + i) = (sTl (th o) (k - 1).toNat).getD i 0)) (fun k => [V, k]) 1 12 (by omega) ?_ (fun k t k0 k2 ⟨g3, e2, e3⟩ => ?_) (fun t ⟨g3, e2, e3⟩ => ?_)
  · have e0 : sTl (th o) ((1 : Int) - 1).toNat = [0] := rfl
    rw [e0]
    refine ⟨_, M1, fun _ => ⟨fun i i0 => by rw [gN_lo (by omega)]; exact y1 i i0, fun i hi => ?_⟩⟩
    have : i = 0 := by simp at hi; omega
    subst this
    rw [show bO o 10 + ((0 : Nat) : Int) = bO o 10 by omega, gN_1]; rfl
  · show jE (b_X20_names_17 t V k) _
    unfold b_X20_names_17
    have hen := e2.2.2.1.1 (k - 1).toNat (by omega)
    rw [nt (by omega), Int.sub_add_cancel] at hen
    have hz := en_z (o := o) (k - 1).toNat
    have hl := en_lo (o := o) (k - 1).toNat
    have hS : sTl (th o) (k + 1 - 1).toNat = if th o (k - 1).toNat then stN (sTl (th o) (k - 1).toNat) (tl (k - 1).toNat) else sTl (th o) (k - 1).toNat := by
      rw [show (k + 1 - 1).toNat = (k - 1).toNat + 1 by omega]; rfl
    have hl0 := sTl_len (T := th o) (k - 1).toNat
    have hl1 := sTl_len (T := th o) (k + 1 - 1).toNat
    rw [if_pos k2, jlt_in (by omega) (by omega), Option.bind_some, hen]
    by_cases c : th o (k - 1).toNat = true
    · rw [if_pos c] at hS
      rw [if_pos (by have : ¬ en o (k - 1).toNat = 0 := fun z => hz.mp z c
                     omega)]
      have H := h.keep e2.1
      have hC1 := hC.fx e2.1 (T40 h.1)
      have hf := e2.2.2.2.2
      rw [show ((10 : Nat) : Int) + 1 = 11 from rfl] at hf
      have hlen := tl_ok (k - 1).toNat (by omega)
      have hle : (sTl (th o) (k - 1).toNat).length ≤ (sTl (th o) (k + 1 - 1).toNat).length := by rw [hS]; exact stN_len.1
      have hn := c_named (Q := fun q => ∃ g5, wM s q.1 V o g5 10 (bO o 10 + (sTl (th o) (k + 1 - 1).toNat).length) ∧ (bO o 10 + (sTl (th o) (k + 1 - 1).toNat).length ≤ 8193 → (∀ i, i < qO o 10 → g5 i = g i) ∧ ∀ i : Nat, i < (sTl (th o) (k + 1 - 1).toNat).length → g5 (bO o 10 + i) = (sTl (th o) (k + 1 - 1).toNat).getD i 0)) H.1 hC1 (k := (k - 1).toNat) (by omega) (fun t' kt hL => by
        have M2 : wM s t' V o g3 10 (bO o 10 + (sTl (th o) (k - 1).toNat).length) := ⟨e2.1.trans (kt.wide (by omega) (by omega)), e2.2.1.kf kt (by omega), e2.2.2.1.kf kt (by omega), e2.2.2.2.1.kf kt (by omega) (by omega), by
          rw [kt.F (by omega), kt.F (by omega)]; exact e2.2.2.2.2⟩
        by_cases cp : bO o 10 + (sTl (th o) (k - 1).toNat).length ≤ 8193
        · obtain ⟨m1, m2⟩ := e3 cp
          rw [hf.2.2.1 cp]
          refine jE_mono (c_string M2.2.1 cp (by omega) hL (by omega) (by omega) (by omega) rfl m2) fun q2 ⟨n1, n2, g5, n3, n4, n5⟩ => ?_
          rw [← hS] at n3 n5
          exact ⟨g5, M2.pb n2 n3 (by omega), fun _ => ⟨fun i i0 => by rw [n4 i (by omega)]; exact m1 i i0, n5⟩⟩
        · refine jE_mono (c_strO M2.2.1 (by omega) (by omega) hL.1 (by omega) (by omega) (by omega) hf.1 hf.2.1) fun q2 ⟨n2, n3⟩ => ?_
          exact ⟨g3, M2.pb n2 (n3 g3 (bO o 10 + (sTl (th o) (k + 1 - 1).toNat).length) (by omega)) (by omega), fun hh => absurd hh (by omega)⟩)
      rw [nt (by omega), Int.sub_add_cancel] at hn
      refine jS_call hn fun q ⟨g5, d1, d2⟩ => ?_
      rw [eu_X20_names_38]; unfold du_X20_names_38
      rw [W32_in (by omega) (by omega)]
      exact jS_end ⟨rfl, g5, d1, d2⟩
    · rw [if_neg c] at hS
      rw [if_neg (by have := hz.mpr c; omega), eu_X20_names_38]; unfold du_X20_names_38
      rw [W32_in (by omega) (by omega)]
      exact jS_end ⟨rfl, g3, by rw [hS]; exact e2, by rw [hS]; exact e3⟩
  · show jE (b_X20_names_17 t V 12) _
    unfold b_X20_names_17
    rw [if_neg (by omega), eu_X20_names_44]; unfold du_X20_names_44
    have e11 : ((12 : Int) - 1).toNat = 11 := rfl
    rw [e11] at e2 e3
    rw [← el] at e2 e3
    refine jS_inr (jS_call (c_end e2 (by omega) (by omega) rfl) fun q hq => ?_)
    rw [← i3] at hq e3
    exact jS_end ⟨g3, hq, fun hh => ⟨(e3 hh).1, fun i hi => (e3 hh).2 i (by omega)⟩⟩
/-- what entries tell, by the component's numbers of parts -/
theorem sr_c : ∀ k : Nat, k < 11 → (if (k : Int) + 1 = 4 then (8 : Int) else if (k : Int) + 1 < 6 then 1 else if ¬ ((k : Int) + 1 < 6) ∧ (¬ (8 < (k : Int) + 1)) then 4 else if (k : Int) + 1 = 9 then 2 else 3) = srO k := by decide
theorem fl_c : ∀ k : Nat, k < 11 → (if (k : Int) + 1 = 1 then (6 : Int) else if (k : Int) + 1 = 2 then 2 else if (k : Int) + 1 < 5 then 3 else if ¬ ((k : Int) + 1 < 6) ∧ (¬ (8 < (k : Int) + 1)) then 64 else 0) = flO k := by decide
theorem ea_c : ∀ k : Nat, k < 11 → (if (k : Int) + 1 = 5 then (2 : Int) else if ¬ ((k : Int) + 1 < 6) ∧ (¬ (8 < (k : Int) + 1)) then 12 else if (k : Int) + 1 = 9 then 16 else 0) = eaO k := by decide
/-- entries up to one -/
def pIx (o : Int → Int → Int → Int) (g g' : Int → Int) (k : Nat) : Prop := (∀ i, i < qO o 11 → g' i = g i) ∧ (∀ i, qO o 11 ≤ i → i < tabO o + 40 → g' i = 0) ∧ ∀ j : Nat, j < k → th o j = true → pEn o g' j
theorem c_index (h : wH s V b o) (hC : pCon s) (S : wS s u V o g 11 (qO o 11)) (hp : qO o 11 ≤ 8193) (hg : ∀ i : Nat, i < (sTl (th o) 11).length → g (bO o 10 + i) = (sTl (th o) 11).getD i 0) : jE (m_X20_index u V b) fun q => ∃ g' p', jFx s q.1 V 8 ∧ wB q.1 (V + 1) 8193 g' p' ∧ (8193 < p' → 8193 < totO o) ∧ (p' ≤ 8193 → p' = totO o ∧ ∃ g2, g' = gNb g2 32 4 (tabO o) ∧ pIx o g g2 11) := by
  have v := h.2.2.2.1
  obtain ⟨tb1, tb2, tb3, tb4⟩ := tab_lo v
  obtain ⟨i1, i2, i3, i4, i5, i6⟩ := in_tot2 v (k := 10) (k' := 11) (by omega) rfl
  have el : lnO o 10 = (sTl (th o) 11).length := rfl
  have hq := qO_lo v 11
  have hq10 := qO_lo v 10
  have he11 := enT_lo (T := th o) 11
  rw [em_X20_index]; unfold dm_X20_index
  refine jS_call (c_align S.2.1 (by omega) (show (0 : Int) < 4 by decide) (by omega)) fun q ⟨k1, g1, w1, y1, y2⟩ => ?_
  have eT : rU (qO o 11) 4 = tabO o := rfl
  rw [eT] at w1 y2
  have S1 := S.pb k1 w1 (by omega)
  have hx2 : 0 ≤ jf q.1 23 (V + 1) 1 ∧ jf q.1 23 (V + 1) 1 ≤ 8193 ∧ (tabO o ≤ 8193 → jf q.1 23 (V + 1) 1 = tabO o) := by
    obtain ⟨-, z1, z2⟩ := w1
    rcases z2 with ⟨z2, z3, z4, -⟩ | ⟨z2, z3, z4⟩
    · rw [z4]; exact ⟨z1, z2, fun _ => rfl⟩
    · rw [z4]; exact ⟨by omega, by omega, fun z => by omega⟩
  generalize jf q.1 23 (V + 1) 1 = T at hx2
  obtain ⟨T0, T1, T2⟩ := hx2
  rw [eu_X20_index_18]; unfold du_X20_index_18
  refine jS_for (fun k t => ∃ g2, wS s t V o g2 11 (tabO o + 4 * k) ∧ (∀ i, i < tabO o → g2 i = g1 i) ∧ ∀ i, tabO o ≤ i → i < tabO o + 4 * k → g2 i = 0) (fun k => [V, b, T, k]) 0 10 (by omega) ⟨g1, by rw [show tabO o + 4 * 0 = tabO o by omega]; exact S1, fun _ _ => rfl, fun j j0 j1 => by omega⟩ (fun k t k0 k2 ⟨g2, e2, e3, e4⟩ => ?_) (fun t ⟨g2, e2, e3, e4⟩ => ?_)
  · show jE (b_X20_index_18 t V b T k) _
    unfold b_X20_index_18
    rw [if_pos k2]
    refine jS_call (c_p4 e2.2.1 (by omega) (jin_of (v := 0) (by omega) (by omega))) fun q ⟨q1, q2⟩ => ?_
    rw [W32_in (by omega) (by omega)]
    have M := e2.pb q1 q2 (by omega)
    rw [show tabO o + 4 * k + 4 = tabO o + 4 * (k + 1) by omega] at M
    refine jS_end ⟨rfl, _, M, fun i i0 => by rw [gN_lo (by omega)]; exact e3 i i0, fun i i0 i1 => ?_⟩
    by_cases c : i < tabO o + 4 * k
    · rw [gN_lo (by omega)]; exact e4 i i0 c
    · exact gN_z (by omega)
  show jE (b_X20_index_18 t V b T 10) _
  unfold b_X20_index_18
  rw [if_neg (by omega), eu_X20_index_38]; unfold du_X20_index_38
  rw [eu_X20_index_40]; unfold du_X20_index_40
  refine jS_inr ?_
  rw [show tabO o + 4 * 10 = tabO o + 40 by omega] at e2 e4
  -- the end: the table's place
  have fin : ∀ t g3 p3, wS s t V o g3 11 p3 → 0 ≤ p3 → (8193 < p3 → 8193 < totO o) → (p3 ≤ 8193 → p3 = totO o ∧ pIx o g g3 11) → jE (u_X20_index_258 t V T) fun q => ∃ g' p', jFx s q.1 V 8 ∧ wB q.1 (V + 1) 8193 g' p' ∧ (8193 < p' → 8193 < totO o) ∧ (p' ≤ 8193 → p' = totO o ∧ ∃ g2, g' = gNb g2 32 4 (tabO o) ∧ pIx o g g2 11) := by
    intro t g3 p3 w p0 hp1 hp2
    rw [eu_X20_index_258]; unfold du_X20_index_258
    refine jS_call (c_patch w.2.1 (by omega) (show (0 : Int) ≤ 32 by decide) (by omega) fun hh => ⟨by have := hp2 hh; omega, jin_of (by omega) (by omega)⟩) fun q3 ⟨o1, o2⟩ => ?_
    refine jS_end ⟨_, p3, w.1.trans (o1.wide (by omega) (by omega)), o2, hp1, fun hh => ⟨(hp2 hh).1, g3, ?_, (hp2 hh).2⟩⟩
    rw [T2 (by have := hp2 hh; omega)]
  refine jS_for (fun k t => ∃ g3, wS s t V o g3 11 (tabO o + 40 * enT (th o) (k - 1).toNat) ∧ (tabO o + 40 * enT (th o) (k - 1).toNat ≤ 8193 → pIx o g g3 (k - 1).toNat)) (fun k => [V, b, T, k]) 1 12 (by omega) ⟨g2, by
      have : enT (th o) ((1 : Int) - 1).toNat = 1 := rfl
      rw [this, show tabO o + 40 * 1 = tabO o + 40 by omega]; exact e2, fun _ => ⟨fun i i0 => by rw [e3 i (by omega)]; exact y1 i i0, fun i i0 i1 => by
        by_cases c : i < tabO o
        · rw [e3 i c]; exact y2 i i0 c
        · exact e4 i (by omega) i1, fun j hj => by
        have : ((1 : Int) - 1).toNat = 0 := rfl
        omega⟩⟩ (fun k t k0 k2 ⟨g3, f2, f3⟩ => ?_) (fun t ⟨g3, f2, f3⟩ => ?_)
  · show jE (b_X20_index_40 t V b T k) _
    unfold b_X20_index_40
    have heK := enT_lo (T := th o) (k - 1).toNat
    have heM := enT_mono (T := th o) (i := (k - 1).toNat) (j := 11) (by omega)
    rw [if_pos k2]
    by_cases cp : tabO o + 40 * enT (th o) (k - 1).toNat ≤ 8193
    · have hov : jf t 23 (V + 1) 2 = 0 := by
        obtain ⟨-, z1, z2⟩ := f2.2.1
        rcases z2 with ⟨z2, z3, z4, -⟩ | ⟨z2, z3, z4⟩
        · exact z3
        · omega
      have hP := f3 cp
      have hen := f2.2.2.1.1 (k - 1).toNat (by omega)
      rw [nt (by omega), Int.sub_add_cancel] at hen
      have hz := en_z (o := o) (k - 1).toNat
      have hS : enT (th o) (k + 1 - 1).toNat = enT (th o) (k - 1).toNat + if th o (k - 1).toNat then 1 else 0 := by
        rw [show (k + 1 - 1).toNat = (k - 1).toNat + 1 by omega]; rfl
      rw [if_pos hov, jlt_in (by omega) (by omega), Option.bind_some, hen]
      by_cases c : th o (k - 1).toNat = true
      · rw [if_pos c] at hS
        rw [if_neg (fun z => hz.mp z c)]
        -- the number of the part
        generalize hj : (k - 1).toNat = j at *
        have hk : k = (j : Int) + 1 := by omega
        subst hk
        have hj11 : j < 11 := by omega
        have H := h.keep f2.1
        have hC1 := hC.fx f2.1 (T40 h.1)
        have hlen := tl_ok j hj11
        have hw10 := f2.2.2.2 10 (by omega) (th_low (by omega))
        unfold wT1 at hw10
        have hf10 := (hw10.2.2.1 cp).1
        rw [show ((10 : Nat) : Int) + 1 = 11 from rfl] at hf10
        obtain ⟨x1, x2⟩ := sTl_st (T := th o) hj11 c ((List.range (tabO o + 40 * enT (th o) j - bO o 10 - (sTl (th o) 11).length).toNat).map fun i : Nat => g3 (bO o 10 + (((sTl (th o) 11).length + i : Nat) : Int)))
        have hn := c_named (Q := fun q => q.2 = stP (sTl (th o) j) (tl j) ∧ (∀ a, V + 3 ≤ a → a ≤ V + 6 → ∀ i, jf q.1 1000 a i = jf t 1000 a i) ∧ ∃ g5, wS s q.1 V o g5 11 (tabO o + 40 * enT (th o) j) ∧ pIx o g g5 j) H.1 hC1 hj11 (fun t' kt hL => by
          rw [hf10]
          have S2 : wS s t' V o g3 11 (tabO o + 40 * enT (th o) j) := ⟨f2.1.trans (kt.wide (by omega) (by omega)), f2.2.1.kf kt (by omega), f2.2.2.1.kf kt (by omega), f2.2.2.2.kf kt (by omega) (by omega)⟩
          have hlS : ((sTl (th o) 11 ++ (List.range (tabO o + 40 * enT (th o) j - bO o 10 - (sTl (th o) 11).length).toNat).map fun i : Nat => g3 (bO o 10 + (((sTl (th o) 11).length + i : Nat) : Int))).length : Int) = tabO o + 40 * enT (th o) j - bO o 10 := by
            rw [List.length_append, List.length_map, List.length_range]; omega
          refine jE_mono (c_string (f := bO o 10) (S := sTl (th o) 11 ++ (List.range (tabO o + 40 * enT (th o) j - bO o 10 - (sTl (th o) 11).length).toNat).map fun i : Nat => g3 (bO o 10 + (((sTl (th o) 11).length + i : Nat) : Int))) S2.2.1 cp (by omega) hL (by omega) (by omega) (by omega) (by omega) fun i hi => ?_) fun q2 ⟨n1, n2, g5, n3, n4, n5⟩ => ?_
          · rw [getD_app]
            by_cases ci : i < (sTl (th o) 11).length
            · rw [if_pos ci, hP.1 _ (by omega)]; exact hg i ci
            · rw [if_neg ci]
              have hi2 : i - (sTl (th o) 11).length < (tabO o + 40 * enT (th o) j - bO o 10 - (sTl (th o) 11).length).toNat := by omega
              simp only [List.getD_eq_getElem?_getD, List.getElem?_map, List.getElem?_range hi2, Option.map_some, Option.getD_some]
              congr 1; omega
          · have hN : stN (sTl (th o) 11 ++ (List.range (tabO o + 40 * enT (th o) j - bO o 10 - (sTl (th o) 11).length).toNat).map fun i : Nat => g3 (bO o 10 + (((sTl (th o) 11).length + i : Nat) : Int))) (tl j) = sTl (th o) 11 ++ (List.range (tabO o + 40 * enT (th o) j - bO o 10 - (sTl (th o) 11).length).toNat).map fun i : Nat => g3 (bO o 10 + (((sTl (th o) 11).length + i : Nat) : Int)) := by
              unfold stN; rw [if_pos (by rw [x1, List.length_append]; omega)]
            rw [hN, hlS, show bO o 10 + (tabO o + 40 * enT (th o) j - bO o 10) = tabO o + 40 * enT (th o) j by omega] at n3
            refine ⟨by rw [n1, x1], fun a a0 a1 i => by rw [n2.F (by omega), kt.F (by omega)], g5, S2.pb n2 n3 (by omega), fun i i0 => by rw [n4 i (by omega)]; exact hP.1 i i0, fun i i0 i1 => by rw [n4 i (by omega)]; exact hP.2.1 i i0 i1, fun m hm c => ?_⟩
            have ha := aEn_lo v (k := m) (by omega) c
            have hp2 := en_pos (o := o) c
            have hm2 := enT_mono (T := th o) (i := m + 1) (j := j) (by omega)
            have hae : aEn o m = tabO o + 40 * en o m := rfl
            exact (hP.2.2 m hm c).of fun i i0 i1 => n4 i (by omega))
        refine jS_call hn fun q0 ⟨m1, m2, g5, m3, m4⟩ => ?_
        obtain ⟨u1, u2, u3, u4⟩ := f2.2.2.2 j hj11 c
        obtain ⟨u5, u6⟩ := u3 cp
        have ha := aEn_lo v hj11 c
        have hp2 := en_pos (o := o) c
        have hae : aEn o j = tabO o + 40 * enT (th o) j := by rw [← hp2.1]; rfl
        rw [← hae] at m3
        have hst := stP_le (S := sTl (th o) j) (w := tl j)
        have hstl := sTl_len (T := th o) j
        have hin := in_tot v hj11
        have hmn : 0 ≤ mnO o j ∧ mnO o j ≤ 4096 := by
          have h1 := v.1 3 (by omega) (by omega)
          rw [if_pos rfl] at h1
          have h2 := lnO_lo v j
          unfold mnO; split <;> omega
        have har : 0 ≤ arO o j ∧ arO o j ≤ 64 := by
          have h1 := (v.1 3 (by omega) (by omega)).2.2.lo
          have h2 := al_lo v j
          unfold arO; split <;> omega
        have hsr : 0 ≤ srO j ∧ srO j ≤ 8 := by
          unfold srO; repeat' split
          all_goals omega
        have hfl : 0 ≤ flO j ∧ flO j ≤ 64 := by
          unfold flO; repeat' split
          all_goals omega
        have hea : 0 ≤ eaO j ∧ eaO j ≤ 16 := by
          unfold eaO; repeat' split
          all_goals omega
        have hLc := nLc_lo v
        have he8 := en_lo (o := o) 8
        have he9 := en_lo (o := o) 9
        have hlk : 0 ≤ lkO o j ∧ lkO o j ≤ 100 := by
          unfold lkO; repeat' split
          all_goals omega
        have hnf : 0 ≤ nfO o j ∧ nfO o j ≤ 200 := by
          have := en_lo (o := o) (j - 5)
          unfold nfO; repeat' split
          all_goals omega
        rw [m1]
        refine jS_call (c_p4 m3.2.1 (by omega) (jin_of (by omega) (by omega))) fun q1 ⟨a1, b1⟩ => ?_
        have M1 := m3.pb a1 b1 (by omega)
        rw [e_X13_sortOf, sr_c j hj11, Option.bind_some]
        refine jS_call (c_p4 M1.2.1 (by omega) (jin_of (by omega) (by omega))) fun q2 ⟨a2, b2⟩ => ?_
        have M2 := M1.pb a2 b2 (by omega)
        rw [e_X13_flagsOf, fl_c j hj11, Option.bind_some]
        refine jS_call (c_p4 M2.2.1 (by omega) (jin_of (by omega) (by omega))) fun q3 ⟨a3, b3⟩ => ?_
        have M3 := M2.pb a3 b3 (by omega)
        refine jS_call (c_p4 M3.2.1 (by omega) (jin_of (v := 0) (by omega) (by omega))) fun q4 ⟨a4, b4⟩ => ?_
        have M4 := M3.pb a4 b4 (by omega)
        have A4 := ((a1.trans a2).trans a3).trans a4
        rw [jlt_in (by omega) (by omega), Option.bind_some, A4.F (by omega), m2 _ (by omega) (by omega), u5]
        refine jS_call (c_p4 M4.2.1 (by omega) (jin_of (by omega) (by omega))) fun q5 ⟨a5, b5⟩ => ?_
        have M5 := M4.pb a5 b5 (by omega)
        have A5 := A4.trans a5
        rw [jlt_in (by omega) (by omega), Option.bind_some, A5.F (by omega), m2 _ (by omega) (by omega), u6, jlt_in (by omega) (by omega), Option.bind_some, A5.F (by omega), m2 _ (by omega) (by omega), u5, show bO o j + mnO o j - bO o j = mnO o j by omega, W32_in (z := mnO o j) (by omega) (by omega)]
        refine jS_call (c_p4 M5.2.1 (by omega) (jin_of (by omega) (by omega))) fun q6 ⟨a6, b6⟩ => ?_
        have M6 := M5.pb a6 b6 (by omega)
        have A6 := A5.trans a6
        -- what is last
        have l225 : ∀ w z, jFx q6.1 w (V + 1) 2 → z = nfO o j → ∀ g6, wS s w V o g6 11 (aEn o j + 28) → (∀ i, i < aEn o j → g6 i = g5 i) → B4 g6 (aEn o j) (stP (sTl (th o) j) (tl j)) → B4 g6 (aEn o j + 4) (srO j) → B4 g6 (aEn o j + 8) (flO j) → B4 g6 (aEn o j + 12) 0 → B4 g6 (aEn o j + 16) (bO o j) → B4 g6 (aEn o j + 20) (mnO o j) → B4 g6 (aEn o j + 24) (lkO o j) → jE (u_X20_index_225 w V b T ((j : Int) + 1) z (V + 1)) fun x => x = .inl (x.elim Prod.fst fun r => r.1, [V, b, T, (j : Int) + 1 + 1]) ∧ ∃ g7, wS s (x.elim Prod.fst fun r => r.1) V o g7 11 (tabO o + 40 * enT (th o) ((j : Int) + 1 + 1 - 1).toNat) ∧ pIx o g g7 ((j : Int) + 1 + 1 - 1).toNat := by
          intro w z kw ez g6 W hag r0 r1 r2 r3 r4 r5 r6
          rw [eu_X20_index_225]; unfold du_X20_index_225
          rw [ez]
          refine jS_call (c_p4 W.2.1 (by omega) (jin_of (by omega) (by omega))) fun q7 ⟨a7, b7⟩ => ?_
          have M7 := W.pb a7 b7 (by omega)
          have A7 := (A6.trans kw).trans a7
          rw [jlt_in (by omega) (by omega), Option.bind_some, A7.F (by omega), m2 _ (by omega) (by omega), u4]
          refine jS_call (c_p4 M7.2.1 (by omega) (jin_of (by omega) (by omega))) fun q8 ⟨a8, b8⟩ => ?_
          have M8 := M7.pb a8 b8 (by omega)
          rw [e_X13_eachOf, ea_c j hj11, Option.bind_some]
          refine jS_call (c_p4 M8.2.1 (by omega) (jin_of (by omega) (by omega))) fun q9 ⟨a9, b9⟩ => ?_
          have M9 := M8.pb a9 b9 (by omega)
          rw [eu_X20_index_252]; unfold du_X20_index_252
          rw [W32_in (by omega) (by omega)]
          have ep : aEn o j + 28 + 4 + 4 + 4 = tabO o + 40 * enT (th o) ((j : Int) + 1 + 1 - 1).toNat := by rw [hS]; omega
          rw [ep] at M9
          have ej : ((j : Int) + 1 + 1 - 1).toNat = j + 1 := by omega
          refine jS_end ⟨rfl, _, M9, ?_⟩
          rw [ej]
          refine ⟨fun i i0 => by rw [gN_lo (by omega), gN_lo (by omega), gN_lo (by omega), hag i (by omega)]; exact m4.1 i i0, fun i i0 i1 => by rw [gN_lo (by omega), gN_lo (by omega), gN_lo (by omega), hag i (by omega)]; exact m4.2.1 i i0 i1, fun m hm c => ?_⟩
          by_cases cm : m = j
          · subst cm
            refine ⟨?_, ?_, ?_, ?_, ?_, ?_, ?_, ?_, ?_, ?_⟩
            · exact ((r0.gn (by omega)).gn (by omega)).gn (by omega)
            · exact ((r1.gn (by omega)).gn (by omega)).gn (by omega)
            · exact ((r2.gn (by omega)).gn (by omega)).gn (by omega)
            · exact ((r3.gn (by omega)).gn (by omega)).gn (by omega)
            · exact ((r4.gn (by omega)).gn (by omega)).gn (by omega)
            · exact ((r5.gn (by omega)).gn (by omega)).gn (by omega)
            · exact ((r6.gn (by omega)).gn (by omega)).gn (by omega)
            · exact (gN_4.gn (by omega)).gn (by omega)
            · rw [show aEn o m + 32 = aEn o m + 28 + 4 by omega]; exact gN_4.gn (by omega)
            · rw [show aEn o m + 36 = aEn o m + 28 + 4 + 4 by omega]; exact gN_4
          · have hp3 := en_pos (o := o) c
            have hm2 := enT_mono (T := th o) (i := m + 1) (j := j) (by omega)
            have hae2 : aEn o m = tabO o + 40 * en o m := rfl
            exact (m4.2.2 m (by omega) c).of fun i i0 i1 => by rw [gN_lo (by omega), gN_lo (by omega), gN_lo (by omega), hag i (by omega)]
        have l181 : ∀ z, z = lkO o j → jE (u_X20_index_181 q6.1 V b T ((j : Int) + 1) z (V + 1)) fun x => x = .inl (x.elim Prod.fst fun r => r.1, [V, b, T, (j : Int) + 1 + 1]) ∧ ∃ g7, wS s (x.elim Prod.fst fun r => r.1) V o g7 11 (tabO o + 40 * enT (th o) ((j : Int) + 1 + 1 - 1).toNat) ∧ pIx o g g7 ((j : Int) + 1 + 1 - 1).toNat := by
          intro z ez
          rw [eu_X20_index_181]; unfold du_X20_index_181
          rw [ez]
          refine jS_call (c_p4 M6.2.1 (by omega) (jin_of (by omega) (by omega))) fun q7 ⟨a7, b7⟩ => ?_
          have M7 := M6.pb a7 b7 (by omega)
          have A7 := A6.trans a7
          have ep : aEn o j + 4 + 4 + 4 + 4 + 4 + 4 + 4 = aEn o j + 28 := by omega
          rw [ep] at M7
          have go := fun z (hz : z = nfO o j) => l225 q7.1 z a7 hz _ M7 (fun i i0 => by rw [gN_lo (by omega), gN_lo (by omega), gN_lo (by omega), gN_lo (by omega), gN_lo (by omega), gN_lo (by omega), gN_lo (by omega)]) (by repeat (first | exact gN_4 | refine B4.gn ?_ (by omega))) (by repeat (first | exact gN_4 | refine B4.gn ?_ (by omega))) (by
              rw [show aEn o j + 8 = aEn o j + 4 + 4 by omega]
              repeat (first | exact gN_4 | refine B4.gn ?_ (by omega))) (by
              rw [show aEn o j + 12 = aEn o j + 4 + 4 + 4 by omega]
              repeat (first | exact gN_4 | refine B4.gn ?_ (by omega))) (by
              rw [show aEn o j + 16 = aEn o j + 4 + 4 + 4 + 4 by omega]
              repeat (first | exact gN_4 | refine B4.gn ?_ (by omega))) (by
              rw [show aEn o j + 20 = aEn o j + 4 + 4 + 4 + 4 + 4 by omega]
              repeat (first | exact gN_4 | refine B4.gn ?_ (by omega))) (by
              rw [show aEn o j + 24 = aEn o j + 4 + 4 + 4 + 4 + 4 + 4 by omega]
              exact gN_4)
          by_cases c5 : 5 ≤ j ∧ j < 8
          · have hE := M7.2.2.1.1 (j - 5) (by omega)
            rw [show ((j - 5 : Nat) : Int) + 1 = (j : Int) + 1 - 6 + 1 by omega] at hE
            rw [isM1 (by omega), Option.bind_some, if_neg (by omega), W32_in (z := (j : Int) + 1 - 6) (by omega) (by omega), W32_in (z := (j : Int) + 1 - 6 + 1) (by omega) (by omega), jlt_in (by omega) (by omega), Option.bind_some, hE]
            exact go _ (by unfold nfO; rw [if_pos c5])
          · rw [isM0 (by omega), Option.bind_some, if_pos rfl]
            by_cases c8 : j = 8
            · have H7 := h.keep M7.1
              rw [if_pos (by omega), c_locals H7.2.2.1 v, jct_in H7.2.1, Option.bind_some, W32_in (z := 1 + nLc o) (by omega) (by omega)]
              exact go _ (by unfold nfO; rw [if_neg c5, if_pos c8])
            · rw [if_neg (by omega)]
              exact go _ (by unfold nfO; rw [if_neg c5, if_neg c8])
        have done : ∀ {x : (jS × List Int) ⊕ (jS × Int)}, (x = .inl (x.elim Prod.fst fun r => r.1, [V, b, T, (j : Int) + 1 + 1]) ∧ ∃ g7, wS s (x.elim Prod.fst fun r => r.1) V o g7 11 (tabO o + 40 * enT (th o) ((j : Int) + 1 + 1 - 1).toNat) ∧ pIx o g g7 ((j : Int) + 1 + 1 - 1).toNat) → ∃ t', x = .inl (t', [V, b, T, (j : Int) + 1 + 1]) ∧ ∃ g7, wS s t' V o g7 11 (tabO o + 40 * enT (th o) ((j : Int) + 1 + 1 - 1).toNat) ∧ pIx o g g7 ((j : Int) + 1 + 1 - 1).toNat := fun hx => ⟨_, hx⟩
        by_cases c5 : 5 ≤ j ∧ j < 8
        · have hE := M6.2.2.1.1 8 (by omega)
          rw [show ((8 : Nat) : Int) + 1 = 9 from rfl] at hE
          rw [isM1 (by omega), Option.bind_some, if_neg (by omega), jlt_in (by omega) (by omega), Option.bind_some, hE]
          refine jE_mono (l181 _ (by unfold lkO; rw [if_pos c5])) fun x hx => ?_
          obtain ⟨t', ex, g7, w7, x7⟩ := done hx
          subst ex
          exact ⟨rfl, g7, w7, fun _ => x7⟩
        · rw [isM0 (by omega), Option.bind_some, if_pos rfl]
          by_cases c8 : j = 8
          · have hE := M6.2.2.1.1 9 (by omega)
            rw [show ((9 : Nat) : Int) + 1 = 10 from rfl] at hE
            rw [if_pos (by omega), jlt_in (by omega) (by omega), Option.bind_some, hE]
            refine jE_mono (l181 _ (by unfold lkO; rw [if_neg c5, if_pos c8])) fun x hx => ?_
            obtain ⟨t', ex, g7, w7, x7⟩ := done hx
            subst ex
            exact ⟨rfl, g7, w7, fun _ => x7⟩
          · rw [if_neg (by omega)]
            refine jE_mono (l181 _ (by unfold lkO; rw [if_neg c5, if_neg c8])) fun x hx => ?_
            obtain ⟨t', ex, g7, w7, x7⟩ := done hx
            subst ex
            exact ⟨rfl, g7, w7, fun _ => x7⟩
      · rw [if_neg c, Int.add_zero] at hS
        rw [if_pos (hz.mpr c), eu_X20_index_252]; unfold du_X20_index_252
        rw [W32_in (by omega) (by omega)]
        refine jS_end ⟨rfl, g3, by rw [hS]; exact f2, fun _ => ⟨hP.1, hP.2.1, fun m hm cm => hP.2.2 m (by
          have : ¬ m = (k - 1).toNat := fun e => c (by rw [← e]; exact cm)
          omega) cm⟩⟩
    · have hov : ¬ jf t 23 (V + 1) 2 = 0 := by
        obtain ⟨-, z1, z2⟩ := f2.2.1
        rcases z2 with ⟨z2, z3, z4, -⟩ | ⟨z2, z3, z4⟩
        · omega
        · omega
      rw [if_neg hov]
      exact jS_inr (fin t g3 _ f2 (by omega) (fun _ => by omega) fun hh => absurd hh (by omega))
  · show jE (b_X20_index_40 t V b T 12) _
    unfold b_X20_index_40
    rw [if_neg (by omega)]
    have e11 : ((12 : Int) - 1).toNat = 11 := rfl
    rw [e11] at f2 f3
    exact jS_inr (fin t g3 _ f2 (by omega) (fun _ => by omega) fun hh => ⟨by omega, f3 hh⟩)
end jCwrite4
