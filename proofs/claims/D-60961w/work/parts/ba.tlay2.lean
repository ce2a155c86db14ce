/-! the twin lays a file out: strings of symbols and of parts, places -/
section jTlay2
variable {s t u : jS} {X x y n : Int} {o : Int → Int → Int → Int} {S w : List Int} {T : Nat → Bool}
theorem jS_row {l : List Int} {c a : Int} (h : ∀ i : Nat, i < l.length → jf s c a i = l.getD i 0) {k : Int} (k0 : 0 ≤ k) (k1 : k < l.length) : jf s c a k = l.getD k.toNat 0 := by
  have := h k.toNat (by omega)
  rw [show ((k.toNat : Nat) : Int) = k by omega] at this
  exact this
theorem tSy.row (h : tSy s X (100 * (0 : Int) + x) (o 4 x)) : tSy s X x (o 4 x) := by rw [show 100 * (0 : Int) + x = x by omega] at h; exact h
theorem t_syNames (hO : tOb s X 0 o) (v : vOb o) (hT : ∀ x, 0 ≤ x → x < o 2 1 0 → jf s 1000 (X + 30) x = tn o x) : jE (m_X40_sizeOfSymbolNames s X) fun q => q.2 = (sSy o (o 2 1 0).toNat).length ∧ fStr s q.1 X ∧ tSt q.1 X (sSy o (o 2 1 0).toNat) ∧ (∀ x, 0 ≤ x → x < o 2 1 0 → jf q.1 1000 (X + 29) x = sAt o x) ∧ ∀ k, jf q.1 1000 (X + 31) k = jf s 1000 (X + 31) k := by
  obtain ⟨n1, n2, n3, n4, n5, n6⟩ := v.2.2.1
  have hN := hO.2.2.1.2.1
  rw [em_X40_sizeOfSymbolNames]; unfold dm_X40_sizeOfSymbolNames
  have hb : jE (m_X40_begin s X) fun q => fStr s q.1 X ∧ tSt q.1 X [0] ∧ ∀ k, jf q.1 1000 (X + 31) k = jf s 1000 (X + 31) k := by
    rw [em_X40_begin]; unfold dm_X40_begin
    (repeat (first | with_reducible refine jS_pos (by omega) ?_ | with_reducible refine jS_neg (by omega) ?_ | with_reducible refine jS_posB (by omega) ?_ | with_reducible refine jS_negB (by omega) ?_ | with_reducible refine jS_some ?_ | with_reducible refine jS_ls ?_ | with_reducible refine jS_let ?_ | with_reducible refine jS_lt (by omega) (by omega) ?_ | with_reducible refine jS_st (by omega) (by omega) ?_ | with_reducible refine jS_ix (by omega) (by omega) ?_ | with_reducible refine jS_dv (by omega) ?_ | with_reducible refine jS_zb (by omega) ?_ | with_reducible refine jS_bb ?_ | with_reducible refine jS_inr ?_ | with_reducible refine jS_lsB ?_ | with_reducible refine jS_letB ?_ | with_reducible refine jS_ck0 (by omega) ?_ | with_reducible refine jS_ck0B (by omega) ?_ | rw [W32_in (by omega) (by omega)] | rw [W32_aL] | rw [W32_aR] | rw [W32_sL] | rw [W32_mR] | rw [jf_neg (by omega)] | rw [jf_pos (by omega)] | with_reducible refine jS_bb ?_))
    refine jS_end ⟨((fStr.rfl.jp (by omega)).jp (by omega)).jp (by omega), ⟨by (repeat (first | rw [jf_neg (by omega)] | rw [jf_pos (by omega)] | rw [ou_neg (by omega)] | rw [ou_pos (by omega)])); rfl, fun i hi => ?_⟩, fun k => by (repeat (first | rw [jf_neg (by omega)] | rw [jf_pos (by omega)] | rw [ou_neg (by omega)] | rw [ou_pos (by omega)]))⟩
    have : i = 0 := by simp only [List.length_cons, List.length_nil] at hi; omega
    subst this
    (repeat (first | rw [jf_neg (by omega)] | rw [jf_pos (by omega)] | rw [ou_neg (by omega)] | rw [ou_pos (by omega)])); rfl
  refine jS_call hb fun q ⟨g0, h0, h31⟩ => ?_
  rw [eu_X40_sizeOfSymbolNames_6]; unfold du_X40_sizeOfSymbolNames_6
  refine jS_for (fun k u => fStr s u X ∧ tSt u X (sSy o k.toNat) ∧ (∀ x, 0 ≤ x → x < o 2 1 0 → tn o x < k → jf u 1000 (X + 29) x = sAt o x) ∧ ∀ k, jf u 1000 (X + 31) k = jf s 1000 (X + 31) k) (fun k => [X, k]) 0 (o 2 1 0) n3 ⟨g0, h0, fun x x0 x1 x2 => by have := tn_lo x0 x1; omega, h31⟩ (fun k u k0 k1 ⟨e1, e2, e3, e5⟩ => ?_) (fun u ⟨e1, e2, e3, e5⟩ => ?_)
  · show jE (b_X40_sizeOfSymbolNames_6 u X k) _
    unfold b_X40_sizeOfSymbolNames_6
    rw [jlt_in (by omega) (by omega), Option.bind_some, e1.r (by omega), hN, if_pos k1, eu_X40_sizeOfSymbolNames_18]; unfold du_X40_sizeOfSymbolNames_18
    obtain ⟨xa, xb, xc⟩ := xt_p k0 k1
    have hl := sSy_len (o := o) k.toNat v.2.2.2.2.1 (by omega)
    refine jS_for (fun x u => fStr s u X ∧ tSt u X (sSy o (if xt o k < x then k.toNat + 1 else k.toNat)) ∧ (∀ y, 0 ≤ y → y < o 2 1 0 → (tn o y < k ∨ tn o y = k ∧ y < x) → jf u 1000 (X + 29) y = sAt o y) ∧ ∀ k, jf u 1000 (X + 31) k = jf s 1000 (X + 31) k) (fun x => [X, k, x]) 0 (o 2 1 0) n3 ⟨e1, by rw [if_neg (by omega)]; exact e2, fun y y0 y1 y2 => e3 y y0 y1 (by omega), e5⟩ (fun x u x0 x1 ⟨e1, e2, e3, e5⟩ => ?_) (fun u ⟨e1, e2, e3, e5⟩ => ?_)
    · show jE (b_X40_sizeOfSymbolNames_18 u X k x) _
      unfold b_X40_sizeOfSymbolNames_18
      rw [jlt_in (by omega) (by omega), Option.bind_some, e1.r (by omega), hN, if_pos x1, jlt_in x0 (by omega), Option.bind_some, e1.r (by omega), hT x x0 x1]
      by_cases c : tn o x = k
      · have ex : xt o k = x := by rw [← c]; exact xt_t x0 x1
        rw [if_neg (by omega)] at e2
        rw [if_pos c]
        obtain ⟨y1, y2, y3, y4, y5, y6, y7⟩ := (hO.2.2.2.2.1 x x0 x1).row
        have vv := v.2.2.2.2.1 x x0 x1
        have v5 := vv.2.2.2.2.2.2.2.2.2.1.at
        have wl := wdL_len (w := o 4 x) v5.1
        rw [jlt_in x0 (by omega), Option.bind_some, e1.r (by omega), y6]
        simp only [jls]
        have c9 : u_X40_sizeOfSymbolNames_53 (jp u 44 X 32 (o 4 x 5)) X k x 0 = u_X40_sizeOfSymbolNames_84 (jfil (jp u 44 X 32 (o 4 x 5)) 1000 (X + 28) 0 (o 4 x 5) (fun i => o 4 x (6 + i))) X k x := by
          rw [eu_X40_sizeOfSymbolNames_53]; unfold du_X40_sizeOfSymbolNames_53
          refine jloop_fill (fun i => [X, k, x, i]) (jp u 44 X 32 (o 4 x 5)) 1000 (X + 28) 0 (o 4 x 5) (fun i => o 4 x (6 + i)) v5.1 (fun i i0 i1 => ?_) ?_
          · show b_X40_sizeOfSymbolNames_53 _ X k x i = _
            unfold b_X40_sizeOfSymbolNames_53
            have b2 := y7 i i0 i1
            rw [jfl_neg (by omega), jf_pos ⟨rfl, rfl, rfl⟩, if_pos i1, W32_in (z := 16 * x) (by omega) (by omega), W32_in (by omega) (by omega), jlt_in (by omega) (by omega), Option.bind_some, jfl_neg (by omega), jf_neg (by omega), e1.r (by omega), b2, jst_in (by omega) (by omega), Option.bind_some, W32_in (by omega) (by omega), Int.zero_add]
          · show b_X40_sizeOfSymbolNames_53 _ X k x (o 4 x 5) = _
            unfold b_X40_sizeOfSymbolNames_53
            rw [jfl_neg (by omega), jf_pos ⟨rfl, rfl, rfl⟩, if_neg (by omega)]
        have hS3 : fStr s (jfil (jp u 44 X 32 (o 4 x 5)) 1000 (X + 28) 0 (o 4 x 5) (fun i => o 4 x (6 + i))) X := (e1.jp (c := 44) (a := X) (k := 32) (v := o 4 x 5) (by omega)).trans ⟨jSm.rfl, fun c a k p q => by rw [jfl_neg (by omega)]⟩
        have hst : tSt (jfil (jp u 44 X 32 (o 4 x 5)) 1000 (X + 28) 0 (o 4 x 5) (fun i => o 4 x (6 + i))) X (sSy o k.toNat) := ⟨by rw [jfl_neg (by omega), jf_neg (by omega)]; exact e2.1, fun i hi => by rw [jfl_neg (by omega), jf_neg (by omega)]; exact e2.2 i hi⟩
        have hwd : tWd (jfil (jp u 44 X 32 (o 4 x 5)) 1000 (X + 28) 0 (o 4 x 5) (fun i => o 4 x (6 + i))) X (wdL (o 4 x)) := ⟨by rw [jfl_neg (by omega), jf_pos ⟨rfl, rfl, rfl⟩]; exact wl.symm, fun i hi => by rw [jfl_pos ⟨rfl, rfl, by omega, by omega⟩, wdL_at (by omega), Int.sub_zero]⟩
        have h29 : ∀ y, jf (jfil (jp u 44 X 32 (o 4 x 5)) 1000 (X + 28) 0 (o 4 x 5) (fun i => o 4 x (6 + i))) 1000 (X + 29) y = jf u 1000 (X + 29) y := fun y => by rw [jfl_neg (by omega), jf_neg (by omega)]
        have h31' : ∀ y, jf (jfil (jp u 44 X 32 (o 4 x 5)) 1000 (X + 28) 0 (o 4 x 5) (fun i => o 4 x (6 + i))) 1000 (X + 31) y = jf u 1000 (X + 31) y := fun y => by rw [jfl_neg (by omega), jf_neg (by omega)]
        rw [c9]
        generalize jfil (jp u 44 X 32 (o 4 x 5)) 1000 (X + 28) 0 (o 4 x 5) (fun i => o 4 x (6 + i)) = s3 at hS3 hst hwd h29 h31' ⊢
        rw [eu_X40_sizeOfSymbolNames_84]; unfold du_X40_sizeOfSymbolNames_84
        -- the places that were told stay
        obtain ⟨q, eq, q1, q2, q3, q4⟩ := t_strFor hst hwd (by omega) (by omega)
        have h29' : ∀ y, jf q.1 1000 (X + 29) y = jf u 1000 (X + 29) y := fun y => by rw [q4 _ _ _ (by omega) (by omega)]; exact h29 y
        rw [eq, Option.bind_some, jst_in x0 (by omega), Option.bind_some, eu_X40_sizeOfSymbolNames_94]; unfold du_X40_sizeOfSymbolNames_94
        rw [W32_in (by omega) (by omega)]
        refine jS_end ⟨rfl, (hS3.trans q2).jp (by omega), ?_, fun y y0 y1 y2 => ?_, fun j => by (repeat (first | rw [jf_neg (by omega)] | rw [jf_pos (by omega)] | rw [ou_neg (by omega)] | rw [ou_pos (by omega)])); rw [q4 _ _ _ (by omega) (by omega), h31']; exact e5 j⟩
        · rw [if_pos (by omega)]
          have e : sSy o (k.toNat + 1) = stN (sSy o k.toNat) (wdL (o 4 x)) := by
            show stN _ (wdL (o 4 (xt o ((k.toNat : Nat) : Int)))) = _
            rw [show ((k.toNat : Nat) : Int) = k by omega, ex]
          rw [e]
          exact ⟨by (repeat (first | rw [jf_neg (by omega)] | rw [jf_pos (by omega)] | rw [ou_neg (by omega)] | rw [ou_pos (by omega)])); exact q3.1, fun i hi => by (repeat (first | rw [jf_neg (by omega)] | rw [jf_pos (by omega)] | rw [ou_neg (by omega)] | rw [ou_pos (by omega)])); exact q3.2 i hi⟩
        · by_cases ey : y = x
          · subst ey
            rw [jf_pos ⟨rfl, rfl, rfl⟩, q1]
            unfold sAt; rw [c]
          · rw [jf_neg (by omega), h29']
            refine e3 y y0 y1 ?_
            rcases y2 with y2 | y2
            · exact .inl y2
            · exact absurd (tn_inj y0 y1 x0 x1 (by omega)) ey
      · rw [if_neg c, eu_X40_sizeOfSymbolNames_94]; unfold du_X40_sizeOfSymbolNames_94
        rw [W32_in (by omega) (by omega)]
        have ex : ¬ xt o k = x := fun e => c (by rw [← e]; exact xc)
        refine jS_end ⟨rfl, e1, ?_, fun y y0 y1 y2 => e3 y y0 y1 ?_, e5⟩
        · by_cases d : xt o k < x
          · rw [if_pos d] at e2; rw [if_pos (by omega)]; exact e2
          · rw [if_neg d] at e2; rw [if_neg (by omega)]; exact e2
        · rcases y2 with y2 | ⟨y2, y3⟩
          · exact .inl y2
          · by_cases ey : y = x
            · subst ey; exact absurd y2 c
            · exact .inr ⟨y2, by omega⟩
    · show jE (b_X40_sizeOfSymbolNames_18 u X k (o 2 1 0)) _
      unfold b_X40_sizeOfSymbolNames_18
      rw [jlt_in (by omega) (by omega), Option.bind_some, e1.r (by omega), hN, if_neg (by omega)]
      simp only [em_X40_sizeOfSymbolNames, dm_X40_sizeOfSymbolNames, eu_X40_sizeOfSymbolNames_106, du_X40_sizeOfSymbolNames_106, eu_X40_sizeOfSymbolNames_100, du_X40_sizeOfSymbolNames_100, eu_X40_sizeOfSymbolNames_94, du_X40_sizeOfSymbolNames_94, eu_X40_sizeOfSymbolNames_84, du_X40_sizeOfSymbolNames_84]
      rw [W32_in (by omega) (by omega)]
      (repeat (first | with_reducible refine jS_pos (by omega) ?_ | with_reducible refine jS_neg (by omega) ?_ | with_reducible refine jS_posB (by omega) ?_ | with_reducible refine jS_negB (by omega) ?_ | with_reducible refine jS_some ?_ | with_reducible refine jS_ls ?_ | with_reducible refine jS_let ?_ | with_reducible refine jS_lt (by omega) (by omega) ?_ | with_reducible refine jS_st (by omega) (by omega) ?_ | with_reducible refine jS_ix (by omega) (by omega) ?_ | with_reducible refine jS_dv (by omega) ?_ | with_reducible refine jS_zb (by omega) ?_ | with_reducible refine jS_bb ?_ | with_reducible refine jS_inr ?_ | with_reducible refine jS_lsB ?_ | with_reducible refine jS_letB ?_ | with_reducible refine jS_ck0 (by omega) ?_ | with_reducible refine jS_ck0B (by omega) ?_ | rw [W32_in (by omega) (by omega)] | rw [W32_aL] | rw [W32_aR] | rw [W32_sL] | rw [W32_mR] | rw [jf_neg (by omega)] | rw [jf_pos (by omega)] | with_reducible refine jS_bb ?_))
      rw [if_pos (by omega)] at e2
      refine jS_end ⟨rfl, e1, ?_, fun y y0 y1 y2 => e3 y y0 y1 (by omega), e5⟩
      rw [show (k + 1).toNat = k.toNat + 1 by omega]; exact e2
  · show jE (b_X40_sizeOfSymbolNames_6 u X (o 2 1 0)) _
    unfold b_X40_sizeOfSymbolNames_6
    rw [jlt_in (by omega) (by omega), Option.bind_some, e1.r (by omega), hN, if_neg (by omega), eu_X40_sizeOfSymbolNames_106]; unfold du_X40_sizeOfSymbolNames_106
    (repeat (first | with_reducible refine jS_pos (by omega) ?_ | with_reducible refine jS_neg (by omega) ?_ | with_reducible refine jS_posB (by omega) ?_ | with_reducible refine jS_negB (by omega) ?_ | with_reducible refine jS_some ?_ | with_reducible refine jS_ls ?_ | with_reducible refine jS_let ?_ | with_reducible refine jS_lt (by omega) (by omega) ?_ | with_reducible refine jS_st (by omega) (by omega) ?_ | with_reducible refine jS_ix (by omega) (by omega) ?_ | with_reducible refine jS_dv (by omega) ?_ | with_reducible refine jS_zb (by omega) ?_ | with_reducible refine jS_bb ?_ | with_reducible refine jS_inr ?_ | with_reducible refine jS_lsB ?_ | with_reducible refine jS_letB ?_ | with_reducible refine jS_ck0 (by omega) ?_ | with_reducible refine jS_ck0B (by omega) ?_ | rw [W32_in (by omega) (by omega)] | rw [W32_aL] | rw [W32_aR] | rw [W32_sL] | rw [W32_mR] | rw [jf_neg (by omega)] | rw [jf_pos (by omega)] | with_reducible refine jS_bb ?_))
    exact jS_end ⟨e2.1, e1, e2, fun x x0 x1 => e3 x x0 x1 (by have := tn_lo x0 x1; omega), e5⟩
/-- the names of parts, as the twin's constructor lays them -/
def pTi (t : jS) (X : Int) : Prop := ∀ k : Nat, k < 11 → 0 ≤ jf t 1000 (X + 23) k ∧ jf t 1000 (X + 23) k + (tl k).length < 128 ∧ (∀ i : Nat, i < (tl k).length → jf t 1000 (X + 22) (jf t 1000 (X + 23) k + i) = (tl k).getD i 0) ∧ jf t 1000 (X + 22) (jf t 1000 (X + 23) k + (tl k).length) = 0
theorem pTi.keep (h : pTi s X) (e : ∀ a k, a = X + 22 ∨ a = X + 23 → jf t 1000 a k = jf s 1000 a k) : pTi t X := fun k hk => by
  rw [e _ _ (.inr rfl), e _ _ (.inl rfl)]
  obtain ⟨h1, h2, h3, h4⟩ := h k hk
  exact ⟨h1, h2, fun i hi => by rw [e _ _ (.inl rfl)]; exact h3 i hi, h4⟩
theorem tl_len (k : Nat) : (tl k).length ≤ 12 := by
  unfold tl; split <;> decide
theorem tl_nz : ∀ k : Nat, k < 11 → ∀ i, i < (tl k).length → (tl k).getD i 0 ≠ 0 := by decide
theorem sTl_len (m : Nat) : 1 ≤ (sTl T m).length ∧ (sTl T m).length ≤ 1 + 13 * m := by
  induction m with
  | zero => exact ⟨Nat.le_refl _, Nat.le_refl _⟩
  | succ m ih =>
    show 1 ≤ (if T m then stN (sTl T m) (tl m) else sTl T m).length ∧ (if T m then stN (sTl T m) (tl m) else sTl T m).length ≤ _
    have := stN_len (S := sTl T m) (w := tl m)
    have := tl_len m
    split <;> omega
theorem t_title (h : pTi s X) {k : Int} (k0 : 0 ≤ k) (k1 : k < 11) : jE (m_X40_takeTitle s X k) fun q => fStr s q.1 X ∧ tWd q.1 X (tl k.toNat) ∧ ∀ c a k, ¬ (c = 1000 ∧ a = X + 28) → ¬ (c = 44 ∧ a = X ∧ k = 32) → jf q.1 c a k = jf s c a k := by
  have hl := tl_len k.toNat
  obtain ⟨h1, h2, h3, h4⟩ := h k.toNat (by omega)
  rw [show ((k.toNat : Nat) : Int) = k by omega] at h1 h2 h3 h4
  have hz := tl_nz k.toNat (by omega)
  rw [em_X40_takeTitle]; unfold dm_X40_takeTitle
  generalize tl k.toNat = w at hl h2 h3 h4 hz ⊢
  generalize ha : jf s 1000 (X + 23) k = a at h1 h2 h3 h4
  simp only [jls]
  rw [jlt_in k0 k1, Option.bind_some, jf_neg (by omega), ha, eu_X40_takeTitle_12]; unfold du_X40_takeTitle_12
  have e0 : ([X, a] : List Int) = (fun i : Int => [X, a + i]) 0 := by show _ = [X, a + 0]; rw [Int.add_zero]
  rw [e0]
  refine jS_for (fun i u => fStr s u X ∧ jf u 44 X 32 = i ∧ (∀ j : Nat, j < i → jf u 1000 (X + 28) j = w.getD j 0) ∧ ∀ c a k, ¬ (c = 1000 ∧ a = X + 28) → ¬ (c = 44 ∧ a = X ∧ k = 32) → jf u c a k = jf s c a k) (fun i => [X, a + i]) 0 w.length (by omega) ⟨fStr.rfl.jp (by omega), by (repeat (first | rw [jf_neg (by omega)] | rw [jf_pos (by omega)] | rw [ou_neg (by omega)] | rw [ou_pos (by omega)])), fun j hj => by omega, fun c a k q q' => by (repeat (first | rw [jf_neg (by omega)] | rw [jf_pos (by omega)] | rw [ou_neg (by omega)] | rw [ou_pos (by omega)]))⟩ (fun i u i0 i1 ⟨e1, e2, e3, e4⟩ => ?_) (fun u ⟨e1, e2, e3, e4⟩ => ?_)
  · show jE (b_X40_takeTitle_12 u X (a + i)) _
    unfold b_X40_takeTitle_12
    have b1 := h3 i.toNat (by omega)
    rw [show ((i.toNat : Nat) : Int) = i by omega] at b1
    have b2 := hz i.toNat (by omega)
    rw [jlt_in (by omega) (by omega), Option.bind_some, e4 _ _ _ (by omega) (by omega), b1, if_neg b2, Option.bind_some, e2, jst_in (by omega) (by omega), Option.bind_some]
    (repeat (first | with_reducible refine jS_pos (by omega) ?_ | with_reducible refine jS_neg (by omega) ?_ | with_reducible refine jS_posB (by omega) ?_ | with_reducible refine jS_negB (by omega) ?_ | with_reducible refine jS_some ?_ | with_reducible refine jS_ls ?_ | with_reducible refine jS_let ?_ | with_reducible refine jS_lt (by omega) (by omega) ?_ | with_reducible refine jS_st (by omega) (by omega) ?_ | with_reducible refine jS_ix (by omega) (by omega) ?_ | with_reducible refine jS_dv (by omega) ?_ | with_reducible refine jS_zb (by omega) ?_ | with_reducible refine jS_bb ?_ | with_reducible refine jS_inr ?_ | with_reducible refine jS_lsB ?_ | with_reducible refine jS_letB ?_ | with_reducible refine jS_ck0 (by omega) ?_ | with_reducible refine jS_ck0B (by omega) ?_ | rw [W32_in (by omega) (by omega)] | rw [W32_aL] | rw [W32_aR] | rw [W32_sL] | rw [W32_mR] | rw [jf_neg (by omega)] | rw [jf_pos (by omega)] | with_reducible refine jS_bb ?_))
    rw [e2]
    (repeat (first | with_reducible refine jS_pos (by omega) ?_ | with_reducible refine jS_neg (by omega) ?_ | with_reducible refine jS_posB (by omega) ?_ | with_reducible refine jS_negB (by omega) ?_ | with_reducible refine jS_some ?_ | with_reducible refine jS_ls ?_ | with_reducible refine jS_let ?_ | with_reducible refine jS_lt (by omega) (by omega) ?_ | with_reducible refine jS_st (by omega) (by omega) ?_ | with_reducible refine jS_ix (by omega) (by omega) ?_ | with_reducible refine jS_dv (by omega) ?_ | with_reducible refine jS_zb (by omega) ?_ | with_reducible refine jS_bb ?_ | with_reducible refine jS_inr ?_ | with_reducible refine jS_lsB ?_ | with_reducible refine jS_letB ?_ | with_reducible refine jS_ck0 (by omega) ?_ | with_reducible refine jS_ck0B (by omega) ?_ | rw [W32_in (by omega) (by omega)] | rw [W32_aL] | rw [W32_aR] | rw [W32_sL] | rw [W32_mR] | rw [jf_neg (by omega)] | rw [jf_pos (by omega)] | with_reducible refine jS_bb ?_))
    refine jS_end ⟨by show [X, a + i + 1] = [X, a + (i + 1)]; rw [Int.add_assoc], (e1.jp (by omega)).jp (by omega), by (repeat (first | rw [jf_neg (by omega)] | rw [jf_pos (by omega)] | rw [ou_neg (by omega)] | rw [ou_pos (by omega)])), fun j hj => ?_, fun c a k q q' => by (repeat (first | rw [jf_neg (by omega)] | rw [jf_pos (by omega)] | rw [ou_neg (by omega)] | rw [ou_pos (by omega)])); exact e4 c a k q q'⟩
    by_cases ej : j = i.toNat
    · subst ej
      rw [jf_neg (by omega), jf_pos (by omega)]
    · (repeat (first | rw [jf_neg (by omega)] | rw [jf_pos (by omega)] | rw [ou_neg (by omega)] | rw [ou_pos (by omega)])); exact e3 j (by omega)
  · show jE (b_X40_takeTitle_12 u X (a + w.length)) _
    unfold b_X40_takeTitle_12
    rw [jlt_in (by omega) (by omega), Option.bind_some, e4 _ _ _ (by omega) (by omega), h4, if_pos rfl]
    (repeat (first | with_reducible refine jS_pos (by omega) ?_ | with_reducible refine jS_neg (by omega) ?_ | with_reducible refine jS_posB (by omega) ?_ | with_reducible refine jS_negB (by omega) ?_ | with_reducible refine jS_some ?_ | with_reducible refine jS_ls ?_ | with_reducible refine jS_let ?_ | with_reducible refine jS_lt (by omega) (by omega) ?_ | with_reducible refine jS_st (by omega) (by omega) ?_ | with_reducible refine jS_ix (by omega) (by omega) ?_ | with_reducible refine jS_dv (by omega) ?_ | with_reducible refine jS_zb (by omega) ?_ | with_reducible refine jS_bb ?_ | with_reducible refine jS_inr ?_ | with_reducible refine jS_lsB ?_ | with_reducible refine jS_letB ?_ | with_reducible refine jS_ck0 (by omega) ?_ | with_reducible refine jS_ck0B (by omega) ?_ | rw [W32_in (by omega) (by omega)] | rw [W32_aL] | rw [W32_aR] | rw [W32_sL] | rw [W32_mR] | rw [jf_neg (by omega)] | rw [jf_pos (by omega)] | with_reducible refine jS_bb ?_))
    exact jS_end ⟨e1, ⟨e2, fun i hi => e3 i (by omega)⟩, e4⟩
theorem t_titles (hP : pTi s X) (hE : ∀ k : Nat, k < 11 → (jf s 1000 (X + 26) k = 0 ↔ ¬ T k = true)) : jE (m_X40_sizeOfTitles s X) fun q => q.2 = (sTl T 11).length ∧ fStr s q.1 X ∧ tSt q.1 X (sTl T 11) ∧ (∀ k : Nat, k < 11 → T k = true → jf q.1 1000 (X + 31) k = stP (sTl T k) (tl k)) ∧ ∀ k, jf q.1 1000 (X + 29) k = jf s 1000 (X + 29) k := by
  rw [em_X40_sizeOfTitles]; unfold dm_X40_sizeOfTitles
  have hb : jE (m_X40_begin s X) fun q => fStr s q.1 X ∧ tSt q.1 X [0] ∧ ∀ k, jf q.1 1000 (X + 29) k = jf s 1000 (X + 29) k := by
    rw [em_X40_begin]; unfold dm_X40_begin
    (repeat (first | with_reducible refine jS_pos (by omega) ?_ | with_reducible refine jS_neg (by omega) ?_ | with_reducible refine jS_posB (by omega) ?_ | with_reducible refine jS_negB (by omega) ?_ | with_reducible refine jS_some ?_ | with_reducible refine jS_ls ?_ | with_reducible refine jS_let ?_ | with_reducible refine jS_lt (by omega) (by omega) ?_ | with_reducible refine jS_st (by omega) (by omega) ?_ | with_reducible refine jS_ix (by omega) (by omega) ?_ | with_reducible refine jS_dv (by omega) ?_ | with_reducible refine jS_zb (by omega) ?_ | with_reducible refine jS_bb ?_ | with_reducible refine jS_inr ?_ | with_reducible refine jS_lsB ?_ | with_reducible refine jS_letB ?_ | with_reducible refine jS_ck0 (by omega) ?_ | with_reducible refine jS_ck0B (by omega) ?_ | rw [W32_in (by omega) (by omega)] | rw [W32_aL] | rw [W32_aR] | rw [W32_sL] | rw [W32_mR] | rw [jf_neg (by omega)] | rw [jf_pos (by omega)] | with_reducible refine jS_bb ?_))
    refine jS_end ⟨((fStr.rfl.jp (by omega)).jp (by omega)).jp (by omega), ⟨by (repeat (first | rw [jf_neg (by omega)] | rw [jf_pos (by omega)] | rw [ou_neg (by omega)] | rw [ou_pos (by omega)])); rfl, fun i hi => ?_⟩, fun k => by (repeat (first | rw [jf_neg (by omega)] | rw [jf_pos (by omega)] | rw [ou_neg (by omega)] | rw [ou_pos (by omega)]))⟩
    have : i = 0 := by simp only [List.length_cons, List.length_nil] at hi; omega
    subst this
    (repeat (first | rw [jf_neg (by omega)] | rw [jf_pos (by omega)] | rw [ou_neg (by omega)] | rw [ou_pos (by omega)])); rfl
  refine jS_call hb fun q ⟨g0, h0, h29⟩ => ?_
  rw [eu_X40_sizeOfTitles_6]; unfold du_X40_sizeOfTitles_6
  refine jS_for (fun k u => fStr s u X ∧ tSt u X (sTl T k.toNat) ∧ (∀ i : Nat, i < k → T i = true → jf u 1000 (X + 31) i = stP (sTl T i) (tl i)) ∧ ∀ k, jf u 1000 (X + 29) k = jf s 1000 (X + 29) k) (fun k => [X, k]) 0 11 (by omega) ⟨g0, h0, fun i hi => by omega, h29⟩ (fun k u k0 k1 ⟨e1, e2, e3, e5⟩ => ?_) (fun u ⟨e1, e2, e3, e5⟩ => ?_)
  · show jE (b_X40_sizeOfTitles_6 u X k) _
    unfold b_X40_sizeOfTitles_6
    have hk := hE k.toNat (by omega)
    rw [show ((k.toNat : Nat) : Int) = k by omega] at hk
    have hl := sTl_len (T := T) k.toNat
    have e : sTl T (k + 1).toNat = if T k.toNat then stN (sTl T k.toNat) (tl k.toNat) else sTl T k.toNat := by rw [show (k + 1).toNat = k.toNat + 1 by omega]; rfl
    rw [if_pos k1, jlt_in k0 k1, Option.bind_some, e1.r (by omega)]
    by_cases c : T k.toNat = true
    · rw [if_neg (fun q => hk.mp q c)]
      rw [if_pos c] at e
      refine jS_call (t_title (hP.keep fun a k q => e1.r (by omega) k) k0 k1) fun q ⟨g1, g2, g3⟩ => ?_
      have hst : tSt q.1 X (sTl T k.toNat) := ⟨by rw [g3 _ _ _ (by omega) (by omega)]; exact e2.1, fun i hi => by rw [g3 _ _ _ (by omega) (by omega)]; exact e2.2 i hi⟩
      have hl2 := tl_len k.toNat
      refine jS_call (t_strFor hst g2 (by omega) (by omega)) fun r ⟨r1, r2, r3, r4⟩ => ?_
      rw [jst_in k0 k1, Option.bind_some, eu_X40_sizeOfTitles_39]; unfold du_X40_sizeOfTitles_39
      (repeat (first | with_reducible refine jS_pos (by omega) ?_ | with_reducible refine jS_neg (by omega) ?_ | with_reducible refine jS_posB (by omega) ?_ | with_reducible refine jS_negB (by omega) ?_ | with_reducible refine jS_some ?_ | with_reducible refine jS_ls ?_ | with_reducible refine jS_let ?_ | with_reducible refine jS_lt (by omega) (by omega) ?_ | with_reducible refine jS_st (by omega) (by omega) ?_ | with_reducible refine jS_ix (by omega) (by omega) ?_ | with_reducible refine jS_dv (by omega) ?_ | with_reducible refine jS_zb (by omega) ?_ | with_reducible refine jS_bb ?_ | with_reducible refine jS_inr ?_ | with_reducible refine jS_lsB ?_ | with_reducible refine jS_letB ?_ | with_reducible refine jS_ck0 (by omega) ?_ | with_reducible refine jS_ck0B (by omega) ?_ | rw [W32_in (by omega) (by omega)] | rw [W32_aL] | rw [W32_aR] | rw [W32_sL] | rw [W32_mR] | rw [jf_neg (by omega)] | rw [jf_pos (by omega)] | with_reducible refine jS_bb ?_))
      refine jS_end ⟨rfl, ((e1.trans g1).trans r2).jp (by omega), ?_, fun i hi hT => ?_, fun j => by (repeat (first | rw [jf_neg (by omega)] | rw [jf_pos (by omega)] | rw [ou_neg (by omega)] | rw [ou_pos (by omega)])); rw [r4 _ _ _ (by omega) (by omega), g3 _ _ _ (by omega) (by omega)]; exact e5 j⟩
      · rw [e]
        exact ⟨by (repeat (first | rw [jf_neg (by omega)] | rw [jf_pos (by omega)] | rw [ou_neg (by omega)] | rw [ou_pos (by omega)])); exact r3.1, fun i hi => by (repeat (first | rw [jf_neg (by omega)] | rw [jf_pos (by omega)] | rw [ou_neg (by omega)] | rw [ou_pos (by omega)])); exact r3.2 i hi⟩
      · by_cases ei : i = k.toNat
        · subst ei
          rw [jf_pos (by omega), r1]
        · (repeat (first | rw [jf_neg (by omega)] | rw [jf_pos (by omega)] | rw [ou_neg (by omega)] | rw [ou_pos (by omega)])); rw [r4 _ _ _ (by omega) (by omega), g3 _ _ _ (by omega) (by omega)]
          exact e3 i (by omega) hT
    · rw [if_pos (hk.mpr c), eu_X40_sizeOfTitles_39]; unfold du_X40_sizeOfTitles_39
      rw [if_neg c] at e
      (repeat (first | with_reducible refine jS_pos (by omega) ?_ | with_reducible refine jS_neg (by omega) ?_ | with_reducible refine jS_posB (by omega) ?_ | with_reducible refine jS_negB (by omega) ?_ | with_reducible refine jS_some ?_ | with_reducible refine jS_ls ?_ | with_reducible refine jS_let ?_ | with_reducible refine jS_lt (by omega) (by omega) ?_ | with_reducible refine jS_st (by omega) (by omega) ?_ | with_reducible refine jS_ix (by omega) (by omega) ?_ | with_reducible refine jS_dv (by omega) ?_ | with_reducible refine jS_zb (by omega) ?_ | with_reducible refine jS_bb ?_ | with_reducible refine jS_inr ?_ | with_reducible refine jS_lsB ?_ | with_reducible refine jS_letB ?_ | with_reducible refine jS_ck0 (by omega) ?_ | with_reducible refine jS_ck0B (by omega) ?_ | rw [W32_in (by omega) (by omega)] | rw [W32_aL] | rw [W32_aR] | rw [W32_sL] | rw [W32_mR] | rw [jf_neg (by omega)] | rw [jf_pos (by omega)] | with_reducible refine jS_bb ?_))
      refine jS_end ⟨rfl, e1, by rw [e]; exact e2, fun i hi hT => ?_, e5⟩
      by_cases ei : i = k.toNat
      · subst ei; exact absurd hT c
      · exact e3 i (by omega) hT
  · show jE (b_X40_sizeOfTitles_6 u X 11) _
    unfold b_X40_sizeOfTitles_6
    rw [if_neg (by omega), eu_X40_sizeOfTitles_45]; unfold du_X40_sizeOfTitles_45
    (repeat (first | with_reducible refine jS_pos (by omega) ?_ | with_reducible refine jS_neg (by omega) ?_ | with_reducible refine jS_posB (by omega) ?_ | with_reducible refine jS_negB (by omega) ?_ | with_reducible refine jS_some ?_ | with_reducible refine jS_ls ?_ | with_reducible refine jS_let ?_ | with_reducible refine jS_lt (by omega) (by omega) ?_ | with_reducible refine jS_st (by omega) (by omega) ?_ | with_reducible refine jS_ix (by omega) (by omega) ?_ | with_reducible refine jS_dv (by omega) ?_ | with_reducible refine jS_zb (by omega) ?_ | with_reducible refine jS_bb ?_ | with_reducible refine jS_inr ?_ | with_reducible refine jS_lsB ?_ | with_reducible refine jS_letB ?_ | with_reducible refine jS_ck0 (by omega) ?_ | with_reducible refine jS_ck0B (by omega) ?_ | rw [W32_in (by omega) (by omega)] | rw [W32_aL] | rw [W32_aR] | rw [W32_sL] | rw [W32_mR] | rw [jf_neg (by omega)] | rw [jf_pos (by omega)] | with_reducible refine jS_bb ?_))
    exact jS_end ⟨e2.1, e1, e2, fun i hi hT => e3 i (by omega) hT, e5⟩
end jTlay2
