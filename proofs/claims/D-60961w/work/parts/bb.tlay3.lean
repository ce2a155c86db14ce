/-! the twin lays a file out: places -/
section jTlay3
variable {s t u : jS} {X x y n : Int} {o : Int → Int → Int → Int} {S w : List Int} {T : Nat → Bool}
theorem rU_1 (p : Int) : rU p 1 = p := by unfold rU; omega
theorem pPw.lo {v : Int} (h : pPw v) : 0 < v ∧ v ≤ 64 := by unfold pPw at h; omega
theorem alO_lo (v : vOb o) (k : Nat) : 0 < alO o k ∧ alO o k ≤ 64 := by
  unfold alO
  by_cases c : k < 3
  · rw [if_pos c]; exact (v.1 k (by omega) (by omega)).2.2.lo
  · rw [if_neg c]; repeat' split
    all_goals omega
theorem nRl_lo (v : vOb o) (s : Int) : 0 ≤ nRl o s ∧ nRl o s ≤ 300 := by
  obtain ⟨n1, n2, n3, n4, n5, n6⟩ := v.2.2.1
  have := cn_lo (P := ofS o s) n5
  unfold nRl; omega
theorem lnO_lo (v : vOb o) (k : Nat) : 0 ≤ lnO o k ∧ lnO o k ≤ 4096 := by
  obtain ⟨n1, n2, n3, n4, n5, n6⟩ := v.2.2.1
  have r0 := nRl_lo v 0
  have r1 := nRl_lo v 1
  have r2 := nRl_lo v 2
  have h1 := sSy_len (o := o) (o 2 1 0).toNat v.2.2.2.2.1 (by omega)
  have h2 := sTl_len (T := th o) 11
  unfold lnO
  by_cases c : k < 3
  · rw [if_pos c]
    have := v.1 k (by omega) (by omega)
    rw [if_neg (by omega)] at this
    omega
  · rw [if_neg c]
    repeat' split
    all_goals omega
theorem qO_lo (v : vOb o) (k : Nat) : 52 ≤ qO o k ∧ qO o k ≤ 52 + 4160 * k := by
  induction k with
  | zero => exact ⟨Int.le_refl _, Int.le_refl _⟩
  | succ k ih =>
    have h1 := alO_lo v k
    have h2 := lnO_lo v k
    have h3 := rU_lo (p := qO o k) h1.1
    show 52 ≤ (if th o k then rU (qO o k) (alO o k) else qO o k) + lnO o k ∧ (if th o k then rU (qO o k) (alO o k) else qO o k) + lnO o k ≤ _
    split <;> omega
theorem bO_lo (v : vOb o) (k : Nat) : qO o k ≤ bO o k ∧ bO o k ≤ qO o k + 63 ∧ qO o (k + 1) = bO o k + lnO o k := by
  have h1 := alO_lo v k
  have h3 := rU_lo (p := qO o k) h1.1
  refine ⟨?_, ?_, rfl⟩ <;> unfold bO <;> split <;> omega
theorem t_roundUp {p a : Int} (h0 : 0 ≤ p) (h1 : p ≤ 1000000) (h2 : 0 < a) (h3 : a ≤ 64) : m_X40_roundUp s p a = some (rU p a) := by
  have := rU_lo (p := p) h2
  rw [e_X40_roundUp _ _ _ (by omega), W32_in (z := p + a) (by omega) (by omega), W32_in (z := p + a - 1) (by omega) (by omega), I_div_n (by omega) (by omega) h2 (by omega)]
  unfold rU at *
  rw [W32_in (by omega) (by omega)]
def fLay (s t : jS) (X : Int) : Prop := jSm s t ∧ ∀ c a k, ¬ (c = 1000 ∧ X + 24 ≤ a ∧ a ≤ X + 31) → ¬ (c = 44 ∧ a = X ∧ (k = 30 ∨ k = 32 ∨ k = 40)) → jf t c a k = jf s c a k
theorem fLay.rfl : fLay s s X := ⟨jSm.rfl, fun _ _ _ _ _ => Eq.refl _⟩
theorem fLay.trans (h : fLay s t X) (g : fLay t u X) : fLay s u X := ⟨h.1.trans g.1, fun c a k p q => (g.2 c a k p q).trans (h.2 c a k p q)⟩
theorem fLay.jp {c a k v : Int} (h : fLay s t X) (e : c = 1000 ∧ X + 24 ≤ a ∧ a ≤ X + 31 ∨ c = 44 ∧ a = X ∧ (k = 30 ∨ k = 32 ∨ k = 40)) : fLay s (jp t c a k v) X :=
  ⟨h.1.jp, fun c' a' k' p q => by rw [jf_jp, if_neg (by omega)]; exact h.2 c' a' k' p q⟩
theorem fLay.r (h : fLay s t X) {a : Int} (e : a < X + 24 ∨ X + 31 < a) (k : Int) : jf t 1000 a k = jf s 1000 a k := h.2 _ _ _ (by omega) (by omega)
theorem fStr.lay (h : fStr s t X) : fLay s t X := ⟨h.1, fun c a k p q => h.2 c a k (by omega) (by omega)⟩
theorem tOb.lay (h : tOb s X 0 o) (g : fLay s t X) (v : vOb o) : tOb t X 0 o := h.keep (fun a k a0 a1 => g.r (by omega) k) v
theorem t_relOf (hO : tOb s X 0 o) (v : vOb o) (y : Int) : m_X40_relocationsOf s X y = some (nRl o y) := by
  obtain ⟨n1, n2, n3, n4, n5, n6⟩ := v.2.2.1
  have hN := hO.2.2.1.2.2
  have key : jE (m_X40_relocationsOf s X y) fun r => r = nRl o y := by
    rw [em_X40_relocationsOf]; unfold dm_X40_relocationsOf
    rw [eu_X40_relocationsOf_4]; unfold du_X40_relocationsOf_4
    refine jS_forR (fun k z => z = cn (ofS o y) k) (fun k z => [X, y, z, k]) 0 (o 2 2 0) n5 rfl (fun k z k0 k1 e => ?_) (fun z e => ?_)
    · show jE (b_X40_relocationsOf_4 s X y z k) _
      unfold b_X40_relocationsOf_4
      have h1 := (hO.2.2.2.2.2 k k0 k1).1
      rw [show 300 * (0 : Int) + k = k by omega] at h1
      have hc := cn_lo (P := ofS o y) k0
      have hs := cn_s (P := ofS o y) k0
      rw [jlt_in (by omega) (by omega), Option.bind_some, hN, if_pos k1, jlt_in k0 (by omega), Option.bind_some, h1]
      simp only [em_X40_relocationsOf, dm_X40_relocationsOf, eu_X40_relocationsOf_30, du_X40_relocationsOf_30, jlet]
      unfold ofS at hs hc e
      by_cases c : o 5 k 0 = y
      · rw [if_pos c, W32_in (by omega) (by omega), W32_in (by omega) (by omega)]
        rw [if_pos (by simp [c])] at hs
        exact jS_end ⟨_, rfl, by unfold ofS; omega⟩
      · rw [if_neg c, W32_in (by omega) (by omega), W32_in (by omega) (by omega)]
        rw [if_neg (by simp [c])] at hs
        exact jS_end ⟨_, rfl, by unfold ofS; omega⟩
    · show jE (b_X40_relocationsOf_4 s X y z (o 2 2 0)) _
      unfold b_X40_relocationsOf_4
      rw [jlt_in (by omega) (by omega), Option.bind_some, hN, if_neg (by omega)]
      (repeat (first | with_reducible refine jS_pos (by omega) ?_ | with_reducible refine jS_neg (by omega) ?_ | with_reducible refine jS_posB (by omega) ?_ | with_reducible refine jS_negB (by omega) ?_ | with_reducible refine jS_some ?_ | with_reducible refine jS_ls ?_ | with_reducible refine jS_let ?_ | with_reducible refine jS_lt (by omega) (by omega) ?_ | with_reducible refine jS_st (by omega) (by omega) ?_ | with_reducible refine jS_ix (by omega) (by omega) ?_ | with_reducible refine jS_dv (by omega) ?_ | with_reducible refine jS_zb (by omega) ?_ | with_reducible refine jS_bb ?_ | with_reducible refine jS_inr ?_ | with_reducible refine jS_lsB ?_ | with_reducible refine jS_letB ?_ | with_reducible refine jS_ck0 (by omega) ?_ | with_reducible refine jS_ck0B (by omega) ?_ | rw [W32_in (by omega) (by omega)] | rw [W32_aL] | rw [W32_aR] | rw [W32_sL] | rw [W32_mR] | rw [jf_neg (by omega)] | rw [jf_pos (by omega)] | with_reducible refine jS_bb ?_))
      exact jS_end e
  obtain ⟨r, e, h⟩ := key
  rw [e, h]
/-- what laying out tells -/
def tLO (t : jS) (X : Int) (o : Int → Int → Int → Int) : Prop := (∀ k : Nat, k < 11 → (k < 4 ∨ th o k = true) → jf t 1000 (X + 24) k = bO o k) ∧ (∀ k : Nat, k < 11 → jf t 1000 (X + 25) k = if k = 3 then o 1 3 0 else lnO o k) ∧ (∀ k : Nat, k < 11 → jf t 1000 (X + 26) k = en o k) ∧ jf t 44 X 40 = enT (th o) 11 ∧ (∀ x, 0 ≤ x → x < o 2 1 0 → jf t 1000 (X + 30) x = tn o x ∧ jf t 1000 (X + 29) x = sAt o x) ∧ ∀ k : Nat, k < 11 → th o k = true → jf t 1000 (X + 31) k = stP (sTl (th o) k) (tl k)
theorem th_low {k : Nat} (h : k < 4 ∨ 8 ≤ k) : th o k = true := by
  unfold th; rw [if_neg (by omega), if_neg (by omega), if_neg (by omega), if_neg (by omega)]
theorem th_ln (v : vOb o) {k : Nat} (h : 4 ≤ k) (h' : k < 8) : th o k = true ↔ 0 < lnO o k := by
  have : k = 4 ∨ k = 5 ∨ k = 6 ∨ k = 7 := by omega
  unfold th lnO
  rcases this with rfl | rfl | rfl | rfl
  · simp; omega
  · simp; omega
  · simp; omega
  · simp; omega
theorem enT_lo (k : Nat) : 1 ≤ enT T k ∧ enT T k ≤ 1 + k := by
  induction k with
  | zero => exact ⟨Int.le_refl _, Int.le_refl _⟩
  | succ k ih =>
    show 1 ≤ enT T k + _ ∧ enT T k + _ ≤ _
    split <;> omega
theorem en_z (k : Nat) : en o k = 0 ↔ ¬ th o k = true := by
  unfold en
  have := enT_lo (T := th o) k
  split
  · rename_i c
    exact ⟨fun q => by omega, fun q => absurd c q⟩
  · rename_i c
    exact ⟨fun _ => c, fun _ => rfl⟩
theorem nt {k : Int} (h : 0 ≤ k) : ((k.toNat : Nat) : Int) = k := by omega
theorem tLay_y (hO : tOb s X 0 o) (v : vOb o) (hP : pTi s X) : jE (m_X40_lay s X) fun q => q.2 = tabO o ∧ fLay s q.1 X ∧ tLO q.1 X o := by
  obtain ⟨n1, n2, n3, n4, n5, n6⟩ := v.2.2.1
  have z4 : ∀ k : Int, 4 * (0 : Int) + k = k := fun k => by omega
  rw [em_X40_lay]; unfold dm_X40_lay
  rw [eu_X40_lay_5]; unfold du_X40_lay_5
  -- the sections
  refine jS_for1 (fun k z u => z = qO o k.toNat ∧ fLay s u X ∧ ∀ i : Nat, i < k → jf u 1000 (X + 24) i = bO o i ∧ jf u 1000 (X + 25) i = lnO o i) (fun k z => [X, z, k]) 0 3 (by omega) ⟨rfl, fLay.rfl, fun i hi => by omega⟩ (fun k z u k0 k1 ⟨e1, e2, e3⟩ => ?_) (fun z u ⟨e1, e2, e3⟩ => ?_)
  · show jE (b_X40_lay_5 u X z k) _
    unfold b_X40_lay_5
    have ha := (hO.1 k k0 (by omega))
    rw [z4] at ha
    have hq := qO_lo v k.toNat
    have hb := bO_lo v k.toNat
    have hl := lnO_lo v k.toNat
    have hal := alO_lo v k.toNat
    have ea : alO o k.toNat = o 1 k 1 := by unfold alO; rw [if_pos (by omega), nt k0]
    have el : lnO o k.toNat = o 1 k 0 := by unfold lnO; rw [if_pos (by omega), nt k0]
    have eb : bO o k.toNat = rU (qO o k.toNat) (o 1 k 1) := by unfold bO; rw [th_low (by omega), if_pos rfl, ea]
    rw [if_pos k1, jlt_in k0 (by omega), Option.bind_some, e2.r (by omega), ha.2, e1, t_roundUp (by omega) (by omega) (by omega) (by omega), Option.bind_some, ← eb, jst_in k0 (by omega), Option.bind_some, jlt_in k0 (by omega), Option.bind_some, jf_neg (by omega), e2.r (by omega), ha.1, jst_in k0 (by omega), Option.bind_some, jlt_in k0 (by omega), Option.bind_some, jf_neg (by omega), jf_neg (by omega), e2.r (by omega), ha.1]
    simp only [jlet]
    rw [W32_in (by omega) (by omega), W32_in (by omega) (by omega)]
    refine jS_end ⟨_, rfl, ?_, (e2.jp (by omega)).jp (by omega), fun i hi => ?_⟩
    · rw [show (k + 1).toNat = k.toNat + 1 by omega, hb.2.2, el]
    · by_cases ei : i = k.toNat
      · subst ei
        rw [nt k0]
        (repeat (first | rw [jf_neg (by omega)] | rw [jf_pos (by omega)] | rw [ou_neg (by omega)] | rw [ou_pos (by omega)])); exact ⟨rfl, el.symm⟩
      · (repeat (first | rw [jf_neg (by omega)] | rw [jf_pos (by omega)] | rw [ou_neg (by omega)] | rw [ou_pos (by omega)])); exact e3 i (by omega)
  show jE (b_X40_lay_5 u X z 3) _
  unfold b_X40_lay_5
  rw [if_neg (by omega), e1]
  refine jS_inr ?_
  show jE (u_X40_lay_55 u X (qO o 3)) _
  rw [eu_X40_lay_55]; unfold du_X40_lay_55
  have hO1 := hO.lay e2 v
  have ha := (hO1.1 3 (by omega) (by omega))
  rw [z4] at ha
  have hN := hO1.2.2.1
  have q3 := qO_lo v 3
  have b3 : bO o 3 = qO o 3 := by unfold bO; rw [th_low (by omega), if_pos rfl]; exact rU_1 _
  have q4 : qO o 4 = qO o 3 := by have h : qO o 4 = bO o 3 + lnO o 3 := (bO_lo v 3).2.2; have : lnO o 3 = 0 := rfl; omega
  rw [jst_in (by omega) (by omega), Option.bind_some, jlt_in (by omega) (by omega), Option.bind_some, jf_neg (by omega), ha.1, jst_in (by omega) (by omega), Option.bind_some, jlt_in (by omega) (by omega), Option.bind_some, jf_neg (by omega), jf_neg (by omega), hN.1, W32_in (by omega) (by omega), jst_in (by omega) (by omega), Option.bind_some]
  have f3 : fLay s (jp (jp (jp u 1000 (X + 24) 3 (qO o 3)) 1000 (X + 25) 3 (o 1 3 0)) 1000 (X + 25) 4 (2 * o 2 0 0)) X := ((e2.jp (by omega)).jp (by omega)).jp (by omega)
  have g3 : (∀ i : Nat, i < 4 → jf (jp (jp (jp u 1000 (X + 24) 3 (qO o 3)) 1000 (X + 25) 3 (o 1 3 0)) 1000 (X + 25) 4 (2 * o 2 0 0)) 1000 (X + 24) i = bO o i) ∧ ∀ i : Nat, i < 5 → jf (jp (jp (jp u 1000 (X + 24) 3 (qO o 3)) 1000 (X + 25) 3 (o 1 3 0)) 1000 (X + 25) 4 (2 * o 2 0 0)) 1000 (X + 25) i = if i = 3 then o 1 3 0 else lnO o i := by
    refine ⟨fun i hi => ?_, fun i hi => ?_⟩
    · by_cases c : i = 3
      · subst c; rw [jf_neg (by omega), jf_neg (by omega), jf_pos (by omega), b3]
      · (repeat (first | rw [jf_neg (by omega)] | rw [jf_pos (by omega)] | rw [ou_neg (by omega)] | rw [ou_pos (by omega)])); exact (e3 i (by omega)).1
    · by_cases c : i = 3
      · subst c; rw [if_pos rfl, jf_neg (by omega), jf_pos (by omega)]
      · rw [if_neg c]
        by_cases c4 : i = 4
        · subst c4; rw [jf_pos (by omega)]; rfl
        · (repeat (first | rw [jf_neg (by omega)] | rw [jf_pos (by omega)] | rw [ou_neg (by omega)] | rw [ou_pos (by omega)])); exact (e3 i (by omega)).2
  generalize jp (jp (jp u 1000 (X + 24) 3 (qO o 3)) 1000 (X + 25) 3 (o 1 3 0)) 1000 (X + 25) 4 (2 * o 2 0 0) = u1 at f3 g3 ⊢
  clear e1 e2 e3 hO1 ha hN
  -- the relocations
  rw [eu_X40_lay_90]; unfold du_X40_lay_90
  refine jS_for (fun k w => fLay s w X ∧ (∀ i : Nat, i < 4 → jf w 1000 (X + 24) i = bO o i) ∧ ∀ i : Nat, i < 5 + k → jf w 1000 (X + 25) i = if i = 3 then o 1 3 0 else lnO o i) (fun k => [X, qO o 3, k]) 0 3 (by omega) ⟨f3, g3.1, fun i hi => g3.2 i (by omega)⟩ (fun k w k0 k1 ⟨e1, e2, e3⟩ => ?_) (fun w ⟨e1, e2, e3⟩ => ?_)
  · show jE (b_X40_lay_90 w X (qO o 3) k) _
    unfold b_X40_lay_90
    have hr := nRl_lo v k
    rw [if_pos k1, t_relOf (hO.lay e1 v) v, Option.bind_some, W32_in (by omega) (by omega), W32_in (by omega) (by omega), jst_in (by omega) (by omega), Option.bind_some, W32_in (by omega) (by omega)]
    refine jS_end ⟨rfl, e1.jp (by omega), fun i hi => by (repeat (first | rw [jf_neg (by omega)] | rw [jf_pos (by omega)] | rw [ou_neg (by omega)] | rw [ou_pos (by omega)])); exact e2 i hi, fun i hi => ?_⟩
    by_cases ei : (i : Int) = 5 + k
    · rw [jf_pos (by omega), if_neg (by omega)]
      have : k = 0 ∨ k = 1 ∨ k = 2 := by omega
      rcases this with rfl | rfl | rfl
      · have : i = 5 := by omega
        subst this; rfl
      · have : i = 6 := by omega
        subst this; rfl
      · have : i = 7 := by omega
        subst this; rfl
    · (repeat (first | rw [jf_neg (by omega)] | rw [jf_pos (by omega)] | rw [ou_neg (by omega)] | rw [ou_pos (by omega)])); exact e3 i (by omega)
  show jE (b_X40_lay_90 w X (qO o 3) 3) _
  unfold b_X40_lay_90
  rw [if_neg (by omega)]
  refine jS_inr ?_
  show jE (u_X40_lay_117 w X (qO o 3)) _
  rw [eu_X40_lay_117]; unfold du_X40_lay_117
  have hN := (hO.lay e1 v).2.2.1
  rw [jlt_in (by omega) (by omega), Option.bind_some, hN.2.1, W32_in (z := 16 * o 2 1 0) (by omega) (by omega), W32_in (by omega) (by omega), jst_in (by omega) (by omega), Option.bind_some]
  have f4 : fLay s (jp w 1000 (X + 25) 8 (16 + 16 * o 2 1 0)) X := e1.jp (by omega)
  have g4 : (∀ i : Nat, i < 4 → jf (jp w 1000 (X + 25) 8 (16 + 16 * o 2 1 0)) 1000 (X + 24) i = bO o i) ∧ ∀ i : Nat, i < 9 → jf (jp w 1000 (X + 25) 8 (16 + 16 * o 2 1 0)) 1000 (X + 25) i = if i = 3 then o 1 3 0 else lnO o i := by
    refine ⟨fun i hi => by (repeat (first | rw [jf_neg (by omega)] | rw [jf_pos (by omega)] | rw [ou_neg (by omega)] | rw [ou_pos (by omega)])); exact e2 i hi, fun i hi => ?_⟩
    by_cases ei : i = 8
    · subst ei; rw [jf_pos (by omega)]; rfl
    · (repeat (first | rw [jf_neg (by omega)] | rw [jf_pos (by omega)] | rw [ou_neg (by omega)] | rw [ou_pos (by omega)])); exact e3 i (by omega)
  generalize jp w 1000 (X + 25) 8 (16 + 16 * o 2 1 0) = w1 at f4 g4 ⊢
  clear e1 e2 e3 hN
  -- turns
  refine jS_call (t_order (hO.lay f4 v) v) fun q ⟨_, t1, t2, t3⟩ => ?_
  have f5 : fLay s q.1 X := f4.trans ⟨t1, fun c a k p q => t2 c a k (by omega)⟩
  have g5 : (∀ i : Nat, i < 4 → jf q.1 1000 (X + 24) i = bO o i) ∧ ∀ i : Nat, i < 9 → jf q.1 1000 (X + 25) i = if i = 3 then o 1 3 0 else lnO o i := ⟨fun i hi => by rw [t2 _ _ _ (by omega)]; exact g4.1 i hi, fun i hi => by rw [t2 _ _ _ (by omega)]; exact g4.2 i hi⟩
  generalize q.1 = w2 at t3 f5 g5 ⊢
  -- strings
  refine jS_call (t_syNames (hO.lay f5 v) v t3) fun q ⟨r1, r2, r3, r4, _⟩ => ?_
  have f6 : fLay s q.1 X := f5.trans r2.lay
  have hl := sSy_len (o := o) (o 2 1 0).toNat v.2.2.2.2.1 (by omega)
  rw [jst_in (by omega) (by omega), Option.bind_some, r1]
  simp only [jls]
  have f7 : fLay s (jp (jp q.1 1000 (X + 25) 9 (sSy o (o 2 1 0).toNat).length) 44 X 40 1) X := (f6.jp (by omega)).jp (by omega)
  have g7 : (∀ i : Nat, i < 4 → jf (jp (jp q.1 1000 (X + 25) 9 (sSy o (o 2 1 0).toNat).length) 44 X 40 1) 1000 (X + 24) i = bO o i) ∧ (∀ i : Nat, i < 10 → jf (jp (jp q.1 1000 (X + 25) 9 (sSy o (o 2 1 0).toNat).length) 44 X 40 1) 1000 (X + 25) i = if i = 3 then o 1 3 0 else lnO o i) ∧ (∀ x, 0 ≤ x → x < o 2 1 0 → jf (jp (jp q.1 1000 (X + 25) 9 (sSy o (o 2 1 0).toNat).length) 44 X 40 1) 1000 (X + 30) x = tn o x ∧ jf (jp (jp q.1 1000 (X + 25) 9 (sSy o (o 2 1 0).toNat).length) 44 X 40 1) 1000 (X + 29) x = sAt o x) ∧ jf (jp (jp q.1 1000 (X + 25) 9 (sSy o (o 2 1 0).toNat).length) 44 X 40 1) 44 X 40 = 1 := by
    refine ⟨fun i hi => by (repeat (first | rw [jf_neg (by omega)] | rw [jf_pos (by omega)] | rw [ou_neg (by omega)] | rw [ou_pos (by omega)])); rw [r2.r (by omega)]; exact g5.1 i hi, fun i hi => ?_, fun x x0 x1 => ⟨by (repeat (first | rw [jf_neg (by omega)] | rw [jf_pos (by omega)] | rw [ou_neg (by omega)] | rw [ou_pos (by omega)])); rw [r2.r (by omega)]; exact t3 x x0 x1, by (repeat (first | rw [jf_neg (by omega)] | rw [jf_pos (by omega)] | rw [ou_neg (by omega)] | rw [ou_pos (by omega)])); exact r4 x x0 x1⟩, by (repeat (first | rw [jf_neg (by omega)] | rw [jf_pos (by omega)] | rw [ou_neg (by omega)] | rw [ou_pos (by omega)]))⟩
    by_cases ei : i = 9
    · subst ei; rw [jf_neg (by omega), jf_pos (by omega)]; rfl
    · (repeat (first | rw [jf_neg (by omega)] | rw [jf_pos (by omega)] | rw [ou_neg (by omega)] | rw [ou_pos (by omega)])); rw [r2.r (by omega)]; exact g5.2 i (by omega)
  generalize jp (jp q.1 1000 (X + 25) 9 (sSy o (o 2 1 0).toNat).length) 44 X 40 1 = w3 at f7 g7 ⊢
  clear t3 f5 g5 r2 r3 r4 f6 g4 f4 f3 g3
  -- entries
  rw [eu_X40_lay_159]; unfold du_X40_lay_159
  refine jS_for (fun k w => fLay s w X ∧ ((∀ i : Nat, i < 4 → jf w 1000 (X + 24) i = bO o i) ∧ (∀ i : Nat, i < 10 → jf w 1000 (X + 25) i = if i = 3 then o 1 3 0 else lnO o i) ∧ (∀ x, 0 ≤ x → x < o 2 1 0 → jf w 1000 (X + 30) x = tn o x ∧ jf w 1000 (X + 29) x = sAt o x) ∧ jf w 44 X 40 = enT (th o) k.toNat) ∧ ∀ i : Nat, i < k → jf w 1000 (X + 26) i = en o i) (fun k => [X, qO o 3, k]) 0 11 (by omega) ⟨f7, g7, fun i hi => by omega⟩ (fun k w k0 k1 ⟨e1, e2, e3⟩ => ?_) (fun w ⟨e1, e2, e3⟩ => ?_)
  · show jE (b_X40_lay_159 w X (qO o 3) k) _
    obtain ⟨d1, d2, d3, d4⟩ := e2
    have hE := enT_lo (T := th o) k.toNat
    have eE : enT (th o) (k + 1).toNat = enT (th o) k.toNat + if th o k.toNat then 1 else 0 := by rw [show (k + 1).toNat = k.toNat + 1 by omega]; rfl
    have eq : b_X40_lay_159 w X (qO o 3) k = some (.inl (jp (jp w 1000 (X + 26) k (en o k.toNat)) 44 X 40 (enT (th o) (k + 1).toNat), [X, qO o 3, k + 1])) := by
      have yes : th o k.toNat = true → u_X40_lay_185 w X (qO o 3) k = some (.inl (jp (jp w 1000 (X + 26) k (en o k.toNat)) 44 X 40 (enT (th o) (k + 1).toNat), [X, qO o 3, k + 1])) := fun c => by
        rw [eu_X40_lay_185]; unfold du_X40_lay_185
        rw [eu_X40_lay_190]; unfold du_X40_lay_190
        rw [if_neg (by omega), eu_X40_lay_210]; unfold du_X40_lay_210
        rw [jst_in k0 k1, Option.bind_some, if_neg (by omega), eu_X40_lay_226]; unfold du_X40_lay_226
        simp only [jls]
        rw [jf_neg (by omega), d4, W32_in (by omega) (by omega), W32_in (by omega) (by omega), eE]
        unfold en
        rw [if_pos c, if_pos c]
      unfold b_X40_lay_159
      rw [if_pos k1]
      by_cases c4 : k < 4
      · rw [if_pos c4]; exact yes (th_low (by omega))
      · rw [if_neg c4]
        by_cases c8 : k < 8
        · have hd := d2 k.toNat (by omega)
          rw [nt k0, if_neg (by omega)] at hd
          have ht := th_ln v (k := k.toNat) (by omega) (by omega)
          rw [if_pos c8, jlt_in k0 k1, Option.bind_some, hd]
          by_cases c : 0 < lnO o k.toNat
          · rw [if_pos c]; exact yes (ht.mpr c)
          · have hn : ¬ th o k.toNat = true := fun q => c (ht.mp q)
            rw [if_neg c, eu_X40_lay_190]; unfold du_X40_lay_190
            rw [if_pos rfl, eu_X40_lay_210]; unfold du_X40_lay_210
            rw [jst_in k0 k1, Option.bind_some, if_pos rfl, eu_X40_lay_226]; unfold du_X40_lay_226
            simp only [jls]
            rw [jf_neg (by omega), d4, W32_in (by omega) (by omega), W32_in (by omega) (by omega), eE]
            unfold en
            rw [if_neg hn, if_neg hn]
        · rw [if_neg c8]; exact yes (th_low (by omega))
    rw [eq]
    refine jS_end ⟨rfl, (e1.jp (by omega)).jp (by omega), ⟨fun i hi => by (repeat (first | rw [jf_neg (by omega)] | rw [jf_pos (by omega)] | rw [ou_neg (by omega)] | rw [ou_pos (by omega)])); exact d1 i hi, fun i hi => by (repeat (first | rw [jf_neg (by omega)] | rw [jf_pos (by omega)] | rw [ou_neg (by omega)] | rw [ou_pos (by omega)])); exact d2 i hi, fun x x0 x1 => by (repeat (first | rw [jf_neg (by omega)] | rw [jf_pos (by omega)] | rw [ou_neg (by omega)] | rw [ou_pos (by omega)])); exact d3 x x0 x1, by (repeat (first | rw [jf_neg (by omega)] | rw [jf_pos (by omega)] | rw [ou_neg (by omega)] | rw [ou_pos (by omega)]))⟩, fun i hi => ?_⟩
    by_cases ei : i = k.toNat
    · subst ei; rw [jf_neg (by omega), jf_pos (by omega)]
    · (repeat (first | rw [jf_neg (by omega)] | rw [jf_pos (by omega)] | rw [ou_neg (by omega)] | rw [ou_pos (by omega)])); exact e3 i (by omega)
  show jE (b_X40_lay_159 w X (qO o 3) 11) _
  unfold b_X40_lay_159
  rw [if_neg (by omega)]
  refine jS_inr ?_
  show jE (u_X40_lay_236 w X (qO o 3)) _
  rw [eu_X40_lay_236]; unfold du_X40_lay_236
  obtain ⟨d1, d2, d3, d4⟩ := e2
  -- titles
  have hE : ∀ k : Nat, k < 11 → (jf w 1000 (X + 26) k = 0 ↔ ¬ th o k = true) := fun k hk => by rw [e3 k (by omega)]; exact en_z k
  refine jS_call (t_titles (T := th o) (hP.keep fun a k q => e1.r (by omega) k) hE) fun q ⟨r1, r2, r3, r4, r5⟩ => ?_
  have hl := sTl_len (T := th o) 11
  rw [jst_in (by omega) (by omega), Option.bind_some, r1]
  have f8 : fLay s (jp q.1 1000 (X + 25) 10 (sTl (th o) 11).length) X := (e1.trans r2.lay).jp (by omega)
  have g8 : (∀ i : Nat, i < 4 → jf (jp q.1 1000 (X + 25) 10 (sTl (th o) 11).length) 1000 (X + 24) i = bO o i) ∧ (∀ i : Nat, i < 11 → jf (jp q.1 1000 (X + 25) 10 (sTl (th o) 11).length) 1000 (X + 25) i = if i = 3 then o 1 3 0 else lnO o i) ∧ (∀ x, 0 ≤ x → x < o 2 1 0 → jf (jp q.1 1000 (X + 25) 10 (sTl (th o) 11).length) 1000 (X + 30) x = tn o x ∧ jf (jp q.1 1000 (X + 25) 10 (sTl (th o) 11).length) 1000 (X + 29) x = sAt o x) ∧ jf (jp q.1 1000 (X + 25) 10 (sTl (th o) 11).length) 44 X 40 = enT (th o) 11 ∧ (∀ i : Nat, i < 11 → jf (jp q.1 1000 (X + 25) 10 (sTl (th o) 11).length) 1000 (X + 26) i = en o i) ∧ ∀ k : Nat, k < 11 → th o k = true → jf (jp q.1 1000 (X + 25) 10 (sTl (th o) 11).length) 1000 (X + 31) k = stP (sTl (th o) k) (tl k) := by
    refine ⟨fun i hi => by (repeat (first | rw [jf_neg (by omega)] | rw [jf_pos (by omega)] | rw [ou_neg (by omega)] | rw [ou_pos (by omega)])); rw [r2.r (by omega)]; exact d1 i hi, fun i hi => ?_, fun x x0 x1 => ⟨by (repeat (first | rw [jf_neg (by omega)] | rw [jf_pos (by omega)] | rw [ou_neg (by omega)] | rw [ou_pos (by omega)])); rw [r2.r (by omega)]; exact (d3 x x0 x1).1, by (repeat (first | rw [jf_neg (by omega)] | rw [jf_pos (by omega)] | rw [ou_neg (by omega)] | rw [ou_pos (by omega)])); rw [r5]; exact (d3 x x0 x1).2⟩, by (repeat (first | rw [jf_neg (by omega)] | rw [jf_pos (by omega)] | rw [ou_neg (by omega)] | rw [ou_pos (by omega)])); rw [r2.i (by omega)]; exact d4, fun i hi => by (repeat (first | rw [jf_neg (by omega)] | rw [jf_pos (by omega)] | rw [ou_neg (by omega)] | rw [ou_pos (by omega)])); rw [r2.r (by omega)]; exact e3 i (by omega), fun k hk c => by (repeat (first | rw [jf_neg (by omega)] | rw [jf_pos (by omega)] | rw [ou_neg (by omega)] | rw [ou_pos (by omega)])); exact r4 k hk c⟩
    by_cases ei : i = 10
    · subst ei; rw [jf_pos (by omega)]; rfl
    · (repeat (first | rw [jf_neg (by omega)] | rw [jf_pos (by omega)] | rw [ou_neg (by omega)] | rw [ou_pos (by omega)])); rw [r2.r (by omega)]; exact d2 i (by omega)
  generalize jp q.1 1000 (X + 25) 10 (sTl (th o) 11).length = w4 at f8 g8 ⊢
  clear d1 d2 d3 d4 e1 e3 hE r2 r3 r4 r5 f7 g7
  obtain ⟨g1, g2, g3, g4, g5, g6⟩ := g8
  -- places of the other parts
  rw [eu_X40_lay_249]; unfold du_X40_lay_249
  refine jS_for1 (fun k z w => z = qO o k.toNat ∧ fLay s w X ∧ (∀ i : Nat, i < 11 → jf w 1000 (X + 25) i = if i = 3 then o 1 3 0 else lnO o i) ∧ (∀ x, 0 ≤ x → x < o 2 1 0 → jf w 1000 (X + 30) x = tn o x ∧ jf w 1000 (X + 29) x = sAt o x) ∧ jf w 44 X 40 = enT (th o) 11 ∧ (∀ i : Nat, i < 11 → jf w 1000 (X + 26) i = en o i) ∧ (∀ k : Nat, k < 11 → th o k = true → jf w 1000 (X + 31) k = stP (sTl (th o) k) (tl k)) ∧ ∀ i : Nat, i < k → (i < 4 ∨ th o i = true) → jf w 1000 (X + 24) i = bO o i) (fun k z => [X, z, k]) 4 11 (by omega) ⟨q4.symm, f8, g2, g3, g4, g5, g6, fun i hi _ => g1 i (by omega)⟩ (fun k z w k0 k1 ⟨e1, e2, e3, e4, e5, e6, e7, e8⟩ => ?_) (fun z w ⟨e1, e2, e3, e4, e5, e6, e7, e8⟩ => ?_)
  · show jE (b_X40_lay_249 w X z k) _
    have hq := qO_lo v k.toNat
    have hb := bO_lo v k.toNat
    have hln := lnO_lo v k.toNat
    have h6 := e6 k.toNat (by omega)
    have h3 := e3 k.toNat (by omega)
    rw [nt (by omega)] at h6 h3
    rw [if_neg (by omega)] at h3
    unfold b_X40_lay_249
    rw [if_pos k1, jlt_in (by omega) k1, Option.bind_some, h6]
    by_cases c : th o k.toNat = true
    · rw [if_neg (fun q => (en_z k.toNat).mp q c)]
      have eb : bO o k.toNat = rU (qO o k.toNat) (alO o k.toNat) := by unfold bO; rw [c, if_pos rfl]
      have fin : jE (u_X40_lay_295 w X k (bO o k.toNat)) fun r => r = .inl (jp w 1000 (X + 24) k (bO o k.toNat), [X, qO o (k + 1).toNat, k + 1]) := by
        rw [eu_X40_lay_295]; unfold du_X40_lay_295
        rw [jst_in (by omega) k1, Option.bind_some, jlt_in (by omega) k1, Option.bind_some, jf_neg (by omega), h3]
        simp only [jlet]
        rw [W32_in (by omega) (by omega), eu_X40_lay_312]; unfold du_X40_lay_312
        rw [W32_in (by omega) (by omega), ← hb.2.2, show (k + 1).toNat = k.toNat + 1 by omega]
        exact jS_end rfl
      have e295 : (if k = 4 then (m_X40_roundUp w z 2).bind fun v2 => u_X40_lay_295 w X k v2 else if k < 9 then (m_X40_roundUp w z 4).bind fun v3 => u_X40_lay_295 w X k v3 else u_X40_lay_295 w X k z) = u_X40_lay_295 w X k (bO o k.toNat) := by
        by_cases c4 : k = 4
        · have : alO o k.toNat = 2 := by rw [c4]; rfl
          rw [if_pos c4, e1, t_roundUp (by omega) (by omega) (by omega) (by omega), Option.bind_some, eb, this]
        · rw [if_neg c4]
          by_cases c9 : k < 9
          · have : alO o k.toNat = 4 := by unfold alO; rw [if_neg (by omega), if_neg (by omega), if_pos (by omega)]
            rw [if_pos c9, e1, t_roundUp (by omega) (by omega) (by omega) (by omega), Option.bind_some, eb, this]
          · have : alO o k.toNat = 1 := by unfold alO; rw [if_neg (by omega), if_neg (by omega), if_neg (by omega)]
            rw [if_neg c9, e1, eb, this, rU_1]
      rw [e295]
      obtain ⟨r, er, hr⟩ := fin
      rw [er, hr]
      refine jS_end ⟨_, rfl, rfl, e2.jp (by omega), fun i hi => by (repeat (first | rw [jf_neg (by omega)] | rw [jf_pos (by omega)] | rw [ou_neg (by omega)] | rw [ou_pos (by omega)])); exact e3 i hi, fun x x0 x1 => by (repeat (first | rw [jf_neg (by omega)] | rw [jf_pos (by omega)] | rw [ou_neg (by omega)] | rw [ou_pos (by omega)])); exact e4 x x0 x1, by (repeat (first | rw [jf_neg (by omega)] | rw [jf_pos (by omega)] | rw [ou_neg (by omega)] | rw [ou_pos (by omega)])); exact e5, fun i hi => by (repeat (first | rw [jf_neg (by omega)] | rw [jf_pos (by omega)] | rw [ou_neg (by omega)] | rw [ou_pos (by omega)])); exact e6 i hi, fun i hi c => by (repeat (first | rw [jf_neg (by omega)] | rw [jf_pos (by omega)] | rw [ou_neg (by omega)] | rw [ou_pos (by omega)])); exact e7 i hi c, fun i hi c => ?_⟩
      by_cases ei : i = k.toNat
      · subst ei; rw [jf_pos (by omega)]
      · (repeat (first | rw [jf_neg (by omega)] | rw [jf_pos (by omega)] | rw [ou_neg (by omega)] | rw [ou_pos (by omega)])); exact e8 i (by omega) c
    · rw [if_pos ((en_z k.toNat).mpr c), eu_X40_lay_312]; unfold du_X40_lay_312
      rw [W32_in (by omega) (by omega)]
      have hl0 : lnO o k.toNat = 0 := by
        by_cases c8 : k < 8
        · have ht := th_ln v (k := k.toNat) (by omega) (by omega)
          have : ¬ 0 < lnO o k.toNat := fun q => c (ht.mpr q)
          omega
        · exact absurd (th_low (by omega)) c
      have eb : bO o k.toNat = qO o k.toNat := by unfold bO; rw [if_neg c]
      refine jS_end ⟨z, rfl, ?_, e2, e3, e4, e5, e6, e7, fun i hi d => ?_⟩
      · rw [show (k + 1).toNat = k.toNat + 1 by omega, hb.2.2, eb, hl0]; omega
      · by_cases ei : i = k.toNat
        · subst ei
          rcases d with d | d
          · omega
          · exact absurd d c
        · exact e8 i (by omega) d
  show jE (b_X40_lay_249 w X z 11) _
  unfold b_X40_lay_249
  rw [if_neg (by omega), eu_X40_lay_318]; unfold du_X40_lay_318
  have hq := qO_lo v 11
  rw [e1, t_roundUp (by show 0 ≤ qO o 11; omega) (by show qO o 11 ≤ _; omega) (by omega) (by omega)]
  (repeat (first | with_reducible refine jS_pos (by omega) ?_ | with_reducible refine jS_neg (by omega) ?_ | with_reducible refine jS_posB (by omega) ?_ | with_reducible refine jS_negB (by omega) ?_ | with_reducible refine jS_some ?_ | with_reducible refine jS_ls ?_ | with_reducible refine jS_let ?_ | with_reducible refine jS_lt (by omega) (by omega) ?_ | with_reducible refine jS_st (by omega) (by omega) ?_ | with_reducible refine jS_ix (by omega) (by omega) ?_ | with_reducible refine jS_dv (by omega) ?_ | with_reducible refine jS_zb (by omega) ?_ | with_reducible refine jS_bb ?_ | with_reducible refine jS_inr ?_ | with_reducible refine jS_lsB ?_ | with_reducible refine jS_letB ?_ | with_reducible refine jS_ck0 (by omega) ?_ | with_reducible refine jS_ck0B (by omega) ?_ | rw [W32_in (by omega) (by omega)] | rw [W32_aL] | rw [W32_aR] | rw [W32_sL] | rw [W32_mR] | rw [jf_neg (by omega)] | rw [jf_pos (by omega)] | with_reducible refine jS_bb ?_))
  exact jS_end ⟨rfl, e2, fun k hk c => e8 k (by omega) c, e3, e6, e5, e4, e7⟩
end jTlay3
