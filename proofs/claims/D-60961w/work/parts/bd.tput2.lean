/-! the twin writes a file: sections, starts, relocations, symbols -/
section jTput2
variable {s t u : jS} {X x y n p v T l : Int} {o : Int → Int → Int → Int} {g g' : Int → Int} {Q : jS × Int → Prop}
theorem qO_mono (v : vOb o) {i j : Nat} (h : i ≤ j) : qO o i ≤ qO o j := by
  induction j with
  | zero => have : i = 0 := by omega
            subst this; omega
  | succ j ih =>
    by_cases e : i = j + 1
    · subst e; omega
    · have := ih (by omega)
      have h1 := bO_lo v j
      have h2 := lnO_lo v j
      omega
theorem tab_lo (v : vOb o) : qO o 11 ≤ tabO o ∧ tabO o < qO o 11 + 4 ∧ totO o = tabO o + 40 * enT (th o) 11 ∧ 1 ≤ enT (th o) 11 := by
  have := rU_lo (p := qO o 11) (a := 4) (by omega)
  have e := enT_lo (T := th o) 11
  have hT : tabO o = rU (qO o 11) 4 := rfl
  exact ⟨by omega, by omega, rfl, e.1⟩
/-- a part lies within the file -/
theorem in_tot (v : vOb o) {k : Nat} (hk : k < 11) : 52 ≤ qO o k ∧ qO o k ≤ bO o k ∧ qO o (k + 1) = bO o k + lnO o k ∧ 0 ≤ lnO o k ∧ qO o (k + 1) ≤ totO o - 40 ∧ qO o (k + 1) ≤ qO o 11 := by
  have h1 := qO_lo v k
  have h2 := bO_lo v k
  have h3 := lnO_lo v k
  have h4 := qO_mono v (i := k + 1) (j := 11) (by omega)
  obtain ⟨h5, h6, h7, h8⟩ := tab_lo v
  omega
theorem in_tot2 (v : vOb o) {k k' : Nat} (hk : k < 11) (e : k' = k + 1) : 52 ≤ qO o k ∧ qO o k ≤ bO o k ∧ qO o k' = bO o k + lnO o k ∧ 0 ≤ lnO o k ∧ qO o k' ≤ totO o - 40 ∧ qO o k' ≤ qO o 11 := by
  subst e; exact in_tot v hk
theorem tLO.fl (h : tLO s X o) (g : fFl s t X) : tLO t X o := by
  obtain ⟨h1, h2, h3, h4, h5, h6⟩ := h
  exact ⟨fun k hk c => by rw [g.r (by omega)]; exact h1 k hk c, fun k hk => by rw [g.r (by omega)]; exact h2 k hk, fun k hk => by rw [g.r (by omega)]; exact h3 k hk, by rw [g.i]; exact h4, fun x x0 x1 => by rw [g.r (by omega), g.r (by omega)]; exact h5 x x0 x1, fun k hk c => by rw [g.r (by omega)]; exact h6 k hk c⟩
theorem tOb.fl (h : tOb s X 0 o) (g : fFl s t X) (v : vOb o) : tOb t X 0 o := h.keep (fun a k a0 a1 => g.r (by omega) k) v
theorem z6 (x k : Int) : 6144 * (0 : Int) + (2048 * x + k) = 2048 * x + k := by omega
theorem z4 (k : Int) : 4 * (0 : Int) + k = k := by omega
theorem z1024 (k : Int) : 1024 * (0 : Int) + k = k := by omega
theorem z100 (k : Int) : 100 * (0 : Int) + k = k := by omega
theorem z300 (k : Int) : 300 * (0 : Int) + k = k := by omega
theorem ph_sec1 (hO : tOb s X 0 o) (v : vOb o) (hL : tLO s X o) (hT : totO o ≤ 8192) {x : Int} (x0 : 0 ≤ x) (x1 : x < 3) : jc4 b_X40_write_86 [X, T, l, x] s = some (.inl (jfil s 1000 (X + 21) (bO o x.toNat) (o 1 x 0) (o 0 x), [X, T, l, x + 1])) := by
  show b_X40_write_86 s X T l x = _
  unfold b_X40_write_86
  obtain ⟨i1, i2, i3, i4, i5, i6⟩ := in_tot v (k := x.toNat) (by omega)
  have el : lnO o x.toNat = o 1 x 0 := by unfold lnO; rw [if_pos (by omega), nt x0]
  have hv := v.1 x x0 (by omega)
  rw [if_neg (by omega)] at hv
  rw [if_pos x1, eu_X40_write_95]; unfold du_X40_write_95
  have hb := hL.1 x.toNat (by omega) (.inl (by omega))
  rw [nt x0] at hb
  have hs := (hO.1 x x0 (by omega)).1
  rw [z4] at hs
  refine jloop_fill (fun k => [X, T, l, x, k]) s 1000 (X + 21) (bO o x.toNat) (o 1 x 0) (o 0 x) hv.1 (fun k k0 k1 => ?_) ?_
  · show b_X40_write_95 _ X T l x k = _
    unfold b_X40_write_95
    have hd := hO.2.1 x k x0 x1 k0 k1
    rw [z6] at hd
    rw [jlt_in x0 (by omega), Option.bind_some, jfl_neg (by omega), hs, if_pos k1, jlt_in x0 (by omega), Option.bind_some, jfl_neg (by omega), hb, W32_in (z := 2048 * x) (by omega) (by omega), W32_in (z := 2048 * x + k) (by omega) (by omega), jlt_in (by omega) (by omega), Option.bind_some, jfl_neg (by omega), hd, W32_in (by omega) (by omega), jst_in (by omega) (by omega), Option.bind_some, W32_in (by omega) (by omega)]
  · show b_X40_write_95 _ X T l x (o 1 x 0) = _
    unfold b_X40_write_95
    rw [jlt_in x0 (by omega), Option.bind_some, jfl_neg (by omega), hs, if_neg (by omega), eu_X40_write_142]; unfold du_X40_write_142
    rw [W32_in (by omega) (by omega)]
theorem ph_sec (hO : tOb s X 0 o) (v : vOb o) (hL : tLO s X o) (hT : totO o ≤ 8192) (cont : ∀ s1, fFl s s1 X → (∀ p, (∀ k : Nat, k < 3 → ¬ (bO o k ≤ p ∧ p < qO o (k + 1))) → fG s1 X p = fG s X p) → pSc o (fG s1 X) → jE (u_X40_write_148 s1 X T l) Q) : jE (u_X40_write_86 s X T l 0) Q := by
  rw [eu_X40_write_86]; unfold du_X40_write_86
  have e0 := ph_sec1 (T := T) (l := l) hO v hL hT (x := 0) (by omega) (by omega)
  have f0 : fFl s (jfil s 1000 (X + 21) (bO o (0 : Int).toNat) (o 1 0 0) (o 0 0)) X := fFl.rfl.jw
  rw [jlpW_l e0]
  have g0 : ∀ p, fG (jfil s 1000 (X + 21) (bO o (0 : Int).toNat) (o 1 0 0) (o 0 0)) X p = if bO o 0 ≤ p ∧ p < bO o 0 + o 1 0 0 then o 0 0 (p - bO o 0) else fG s X p := fun p => fG_w
  generalize jfil s 1000 (X + 21) (bO o (0 : Int).toNat) (o 1 0 0) (o 0 0) = s1 at f0 g0 ⊢
  have e1 := ph_sec1 (T := T) (l := l) (hO.fl f0 v) v (hL.fl f0) hT (x := 0 + 1) (by omega) (by omega)
  have f1 : fFl s1 (jfil s1 1000 (X + 21) (bO o (0 + 1 : Int).toNat) (o 1 (0 + 1) 0) (o 0 (0 + 1))) X := fFl.rfl.jw
  rw [jlpW_l e1]
  have g1 : ∀ p, fG (jfil s1 1000 (X + 21) (bO o (0 + 1 : Int).toNat) (o 1 (0 + 1) 0) (o 0 (0 + 1))) X p = if bO o 1 ≤ p ∧ p < bO o 1 + o 1 1 0 then o 0 1 (p - bO o 1) else fG s1 X p := fun p => fG_w
  generalize jfil s1 1000 (X + 21) (bO o (0 + 1 : Int).toNat) (o 1 (0 + 1) 0) (o 0 (0 + 1)) = s2 at f1 g1 ⊢
  have f1' := f0.trans f1
  have e2 := ph_sec1 (T := T) (l := l) (hO.fl f1' v) v (hL.fl f1') hT (x := 0 + 1 + 1) (by omega) (by omega)
  have f2 : fFl s2 (jfil s2 1000 (X + 21) (bO o (0 + 1 + 1 : Int).toNat) (o 1 (0 + 1 + 1) 0) (o 0 (0 + 1 + 1))) X := fFl.rfl.jw
  rw [jlpW_l e2]
  have g2 : ∀ p, fG (jfil s2 1000 (X + 21) (bO o (0 + 1 + 1 : Int).toNat) (o 1 (0 + 1 + 1) 0) (o 0 (0 + 1 + 1))) X p = if bO o 2 ≤ p ∧ p < bO o 2 + o 1 2 0 then o 0 2 (p - bO o 2) else fG s2 X p := fun p => fG_w
  generalize jfil s2 1000 (X + 21) (bO o (0 + 1 + 1 : Int).toNat) (o 1 (0 + 1 + 1) 0) (o 0 (0 + 1 + 1)) = s3 at f2 g2 ⊢
  rw [jlpW_r (r := u_X40_write_148 s3 X T l) (by
    show b_X40_write_86 s3 X T l (0 + 1 + 1 + 1) = _
    unfold b_X40_write_86
    rw [if_neg (by omega)])]
  have l0 : lnO o 0 = o 1 0 0 := rfl
  have l1 : lnO o 1 = o 1 1 0 := rfl
  have l2 : lnO o 2 = o 1 2 0 := rfl
  obtain ⟨a1, a2, a3, a4, a5, a6⟩ := in_tot2 v (k := 0) (k' := 1) (by omega) rfl
  obtain ⟨b1, b2, b3, b4, b5, b6⟩ := in_tot2 v (k := 1) (k' := 2) (by omega) rfl
  obtain ⟨c1, c2, c3, c4, c5, c6⟩ := in_tot2 v (k := 2) (k' := 3) (by omega) rfl
  refine cont s3 (f1'.trans f2) (fun p hp => ?_) (fun x hx k k0 k1 => ?_)
  · have h0 : ¬ (bO o 0 ≤ p ∧ p < qO o 1) := hp 0 (by omega)
    have h1 : ¬ (bO o 1 ≤ p ∧ p < qO o 2) := hp 1 (by omega)
    have h2 : ¬ (bO o 2 ≤ p ∧ p < qO o 3) := hp 2 (by omega)
    rw [g2, if_neg (by omega), g1, if_neg (by omega), g0, if_neg (by omega)]
  · have : x = 0 ∨ x = 1 ∨ x = 2 := by omega
    rcases this with rfl | rfl | rfl
    · have k1' : k < o 1 0 0 := k1
      show fG s3 X (bO o 0 + k) = _
      rw [g2, if_neg (by omega), g1, if_neg (by omega), g0, if_pos (by omega)]
      show o 0 0 (bO o 0 + k - bO o 0) = o 0 0 k
      congr 1; omega
    · have k1' : k < o 1 1 0 := k1
      show fG s3 X (bO o 1 + k) = _
      rw [g2, if_neg (by omega), g1, if_pos (by omega)]
      show o 0 1 (bO o 1 + k - bO o 1) = o 0 1 k
      congr 1; omega
    · have k1' : k < o 1 2 0 := k1
      show fG s3 X (bO o 2 + k) = _
      rw [g2, if_pos (by omega)]
      show o 0 2 (bO o 2 + k - bO o 2) = o 0 2 k
      congr 1; omega
theorem ph_st (hO : tOb s X 0 o) (v : vOb o) (hL : tLO s X o) (hT : totO o ≤ 8192) (cont : ∀ s1, fFl s s1 X → (∀ p, ¬ (bO o 4 ≤ p ∧ p < qO o 5) → fG s1 X p = fG s X p) → pSs o (fG s1 X) → jE (u_X40_write_190 s1 X T l) Q) : jE (u_X40_write_148 s X T l) Q := by
  obtain ⟨n1, n2, n3, n4, n5, n6⟩ := v.2.2.1
  obtain ⟨i1, i2, i3, i4, i5, i6⟩ := in_tot2 v (k := 4) (k' := 5) (by omega) rfl
  have l4 : lnO o 4 = 2 * o 2 0 0 := rfl
  have hN := hO.2.2.1.1
  rw [eu_X40_write_148]; unfold du_X40_write_148
  rw [eu_X40_write_151]; unfold du_X40_write_151
  refine jS_for (fun k u => fFl s u X ∧ (∀ p, ¬ (bO o 4 ≤ p ∧ p < qO o 5) → fG u X p = fG s X p) ∧ ∀ i, 0 ≤ i → i < k → B2 (fG u X) (bO o 4 + 2 * i) (o 3 i 0)) (fun k => [X, T, l, k]) 0 (o 2 0 0) n1 ⟨fFl.rfl, fun _ _ => rfl, fun i i0 i1 => by omega⟩ (fun k u k0 k1 ⟨e1, e2, e3⟩ => ?_) (fun u ⟨e1, e2, e3⟩ => ?_)
  · show jE (b_X40_write_151 u X T l k) _
    unfold b_X40_write_151
    have hk := v.2.2.2.1 k k0 k1
    have h1 := hO.2.2.2.1 k k0 k1
    rw [z1024] at h1
    have hb := hL.1 4 (by omega) (.inr ((th_ln v (by omega) (by omega)).mpr (by omega)))
    rw [jlt_in (by omega) (by omega), Option.bind_some, e1.r (by omega), hN, if_pos k1, jlt_in (by omega) (by omega), Option.bind_some, e1.r (by omega), show jf s 1000 (X + 24) 4 = bO o 4 from hb, jlt_in k0 (by omega), Option.bind_some, e1.r (by omega), h1, W32_in (z := 2 * k) (by omega) (by omega), W32_in (by omega) (by omega), t_w2 (by omega) (by omega) (jin_of (by omega) (by omega)), Option.bind_some, W32_in (by omega) (by omega)]
    refine jS_end ⟨rfl, e1.jw, fun p hp => by rw [fG_n (by omega)]; exact e2 p hp, fun i i0 i1 => ?_⟩
    by_cases ei : i = k
    · subst ei; exact fG_2
    · exact (e3 i i0 (by omega)).w (by omega)
  · show jE (b_X40_write_151 u X T l (o 2 0 0)) _
    unfold b_X40_write_151
    rw [jlt_in (by omega) (by omega), Option.bind_some, e1.r (by omega), hN, if_neg (by omega)]
    refine jS_inr ?_
    exact cont u e1 e2 e3
theorem iRl_lo (v : vOb o) (x0 : 0 ≤ x) (x1 : x < o 2 2 0) : 0 ≤ iRl o x ∧ iRl o x ≤ 65535 := by
  obtain ⟨n1, n2, n3, n4, n5, n6⟩ := v.2.2.1
  obtain ⟨v1, v2, v3, v4, v5, v6, v7, v8, v9⟩ := v.2.2.2.2.2 x x0 x1
  unfold kOK at v5
  unfold iRl
  by_cases c : o 5 x 3 = -1
  · rw [if_pos c]; omega
  · rw [if_neg c]
    have := tn_lo (o := o) (x := o 5 x 3) (by omega) v7
    omega
theorem ph_rl1 (hO : tOb s X 0 o) (v : vOb o) (hL : tLO s X o) (hT : totO o ≤ 8192) {y : Int} (y0 : 0 ≤ y) (y1 : y < 3) : jE (m_X40_writeRelocations s X y) fun q => fFl s q.1 X ∧ (∀ p, ¬ (bO o (5 + y.toNat) ≤ p ∧ p < qO o (6 + y.toNat)) → fG q.1 X p = fG s X p) ∧ ∀ x, 0 ≤ x → x < o 2 2 0 → o 5 x 0 = y → pRl o (fG q.1 X) x := by
  obtain ⟨n1, n2, n3, n4, n5, n6⟩ := v.2.2.1
  obtain ⟨i1, i2, i3, i4, i5, i6⟩ := in_tot v (k := 5 + y.toNat) (by omega)
  rw [show 5 + y.toNat + 1 = 6 + y.toNat by omega] at i3 i5 i6
  have ly : lnO o (5 + y.toNat) = 12 * nRl o y := by
    have : y = 0 ∨ y = 1 ∨ y = 2 := by omega
    rcases this with rfl | rfl | rfl <;> rfl
  have hN := hO.2.2.1.2.2
  rw [em_X40_writeRelocations]; unfold dm_X40_writeRelocations
  rw [W32_in (by omega) (by omega), jlt_in (by omega) (by omega), Option.bind_some, eu_X40_writeRelocations_11]; unfold du_X40_writeRelocations_11
  by_cases c0 : 0 < nRl o y
  · have hb := hL.1 (5 + y.toNat) (by omega) (.inr ((th_ln v (by omega) (by omega)).mpr (by omega)))
    rw [show ((5 + y.toNat : Nat) : Int) = 5 + y by omega] at hb
    rw [hb]
    have e0 : ([X, y, bO o (5 + y.toNat), 0] : List Int) = (fun (k z : Int) => [X, y, z, k]) 0 (bO o (5 + y.toNat)) := rfl
    rw [e0]
    refine jS_for1 (fun k z u => z = bO o (5 + y.toNat) + 12 * cn (ofS o y) k ∧ fFl s u X ∧ (∀ p, ¬ (bO o (5 + y.toNat) ≤ p ∧ p < qO o (6 + y.toNat)) → fG u X p = fG s X p) ∧ ∀ i, 0 ≤ i → i < k → o 5 i 0 = y → pRl o (fG u X) i) (fun k z => [X, y, z, k]) 0 (o 2 2 0) n5 ⟨by rw [cn_0]; omega, fFl.rfl, fun _ _ => rfl, fun i i0 i1 => by omega⟩ (fun k z u k0 k1 ⟨e0, e1, e2, e3⟩ => ?_) (fun z u ⟨e0, e1, e2, e3⟩ => ?_)
    · show jE (b_X40_writeRelocations_11 u X y z k) _
      unfold b_X40_writeRelocations_11
      obtain ⟨h1, h2, h3, h4, h5⟩ := hO.2.2.2.2.2 k k0 k1
      rw [z300] at h1 h2 h3 h4 h5
      obtain ⟨v1, v2, v3, v4, v5, v6, v7, v8, v9⟩ := v.2.2.2.2.2 k k0 k1
      have hc := cn_lo (P := ofS o y) k0
      have hs := cn_s (P := ofS o y) k0
      have hle := (cn_le (P := ofS o y) (x := k + 1) (y := o 2 2 0) (by omega) (by omega)).1
      have hnr : nRl o y = cn (ofS o y) (o 2 2 0) := rfl
      rw [jlt_in (by omega) (by omega), Option.bind_some, e1.r (by omega), hN, if_pos k1, jlt_in k0 (by omega), Option.bind_some, e1.r (by omega), h1]
      by_cases c : o 5 k 0 = y
      · rw [if_pos (by unfold ofS; simp [c])] at hs
        have ea : aRl o k = z := by unfold aRl; rw [c, e0]
        rw [if_pos c, jlt_in k0 (by omega), Option.bind_some, e1.r (by omega), h2, t_w4 (by omega) (by omega) (jin_of (by omega) (by omega)), Option.bind_some, jlt_in k0 (by omega), Option.bind_some, jfl_neg (by omega), e1.r (by omega), h4]
        have hi := iRl_lo v k0 k1
        -- what comes behind
        have fin : ∀ w m : Int, 256 * m + o 5 k 2 = iRl o k → -8388608 ≤ m → m ≤ 8388607 → jE (u_X40_writeRelocations_79 (jfil u 1000 (X + 21) z 4 (by4 (o 5 k 1))) X y z k m 256 (W32 (z + 4)) X) fun q => q = .inl (jfil (jfil (jfil u 1000 (X + 21) z 4 (by4 (o 5 k 1))) 1000 (X + 21) (z + 4) 4 (by4 (iRl o k))) 1000 (X + 21) (z + 8) 4 (by4 (o 5 k 4)), [X, y, z + 12, k + 1]) := fun _ m hm m0 m1 => by
          rw [eu_X40_writeRelocations_79]; unfold du_X40_writeRelocations_79
          rw [jlt_in k0 (by omega), Option.bind_some, jfl_neg (by omega), e1.r (by omega), h3, W32_in (z := 256 * m) (by omega) (by omega), hm, W32_in (z := iRl o k) (by omega) (by omega), W32_in (z := z + 4) (by omega) (by omega), t_w4 (by omega) (by omega) (jin_of (by omega) (by omega)), Option.bind_some, jlt_in k0 (by omega), Option.bind_some, jfl_neg (by omega), jfl_neg (by omega), e1.r (by omega), h5, W32_in (z := z + 8) (by omega) (by omega), t_w4 (by omega) (by omega) v8, Option.bind_some, eu_X40_writeRelocations_107]; unfold du_X40_writeRelocations_107
          rw [W32_in (by omega) (by omega), W32_in (by omega) (by omega)]
          exact jS_end rfl
        have fin2 : jE (if o 5 k 3 = -1 then u_X40_writeRelocations_79 (jfil u 1000 (X + 21) z 4 (by4 (o 5 k 1))) X y z k 0 256 (W32 (z + 4)) X else (some (o 5 k 3)).bind fun v6 => (jlt (jfil u 1000 (X + 21) z 4 (by4 (o 5 k 1))) 1000 (X + 30) 100 v6).bind fun v7 => u_X40_writeRelocations_79 (jfil u 1000 (X + 21) z 4 (by4 (o 5 k 1))) X y z k (W32 (1 + v7)) 256 (W32 (z + 4)) X) fun q => q = .inl (jfil (jfil (jfil u 1000 (X + 21) z 4 (by4 (o 5 k 1))) 1000 (X + 21) (z + 4) 4 (by4 (iRl o k))) 1000 (X + 21) (z + 8) 4 (by4 (o 5 k 4)), [X, y, z + 12, k + 1]) := by
          by_cases c3 : o 5 k 3 = -1
          · rw [if_pos c3]
            exact fin 0 0 (by unfold iRl; rw [if_pos c3]) (by omega) (by omega)
          · have ht := tn_lo (o := o) (x := o 5 k 3) (by omega) v7
            rw [if_neg c3, Option.bind_some, jlt_in (by omega) (by omega), Option.bind_some, jfl_neg (by omega), e1.r (by omega), (hL.2.2.2.2.1 _ (by omega) v7).1, W32_in (z := 1 + tn o (o 5 k 3)) (by omega) (by omega)]
            exact fin 0 _ (by unfold iRl; rw [if_neg c3]) (by omega) (by omega)
        obtain ⟨q, eq, hq⟩ := fin2
        rw [eq, hq]
        refine jS_end ⟨z + 12, rfl, by omega, e1.jw.jw.jw, fun p hp => by rw [fG_n (by omega), fG_n (by omega), fG_n (by omega)]; exact e2 p hp, fun i i0 i1 ic => ?_⟩
        by_cases ei : i = k
        · subst ei
          unfold pRl
          rw [ea]
          exact ⟨(fG_4.w (by omega)).w (by omega), fG_4.w (by omega), fG_4⟩
        · have hlt := cn_lt (P := ofS o y) i0 (show i < k by omega) (by unfold ofS; simp [ic])
          have hci := cn_lo (P := ofS o y) i0
          have eai : aRl o i = bO o (5 + y.toNat) + 12 * cn (ofS o y) i := by unfold aRl; rw [ic]
          obtain ⟨r1, r2, r3⟩ := e3 i i0 (by omega) ic
          exact ⟨((r1.w (by omega)).w (by omega)).w (by omega), ((r2.w (by omega)).w (by omega)).w (by omega), ((r3.w (by omega)).w (by omega)).w (by omega)⟩
      · rw [if_neg (by unfold ofS; simp [c])] at hs
        rw [if_neg c, eu_X40_writeRelocations_107]; unfold du_X40_writeRelocations_107
        rw [W32_in (by omega) (by omega)]
        refine jS_end ⟨z, rfl, by omega, e1, e2, fun i i0 i1 ic => ?_⟩
        by_cases ei : i = k
        · subst ei; exact absurd ic c
        · exact e3 i i0 (by omega) ic
    · show jE (b_X40_writeRelocations_11 u X y z (o 2 2 0)) _
      unfold b_X40_writeRelocations_11
      rw [jlt_in (by omega) (by omega), Option.bind_some, e1.r (by omega), hN, if_neg (by omega)]
      (repeat (first | with_reducible refine jS_pos (by omega) ?_ | with_reducible refine jS_neg (by omega) ?_ | with_reducible refine jS_posB (by omega) ?_ | with_reducible refine jS_negB (by omega) ?_ | with_reducible refine jS_some ?_ | with_reducible refine jS_ls ?_ | with_reducible refine jS_let ?_ | with_reducible refine jS_lt (by omega) (by omega) ?_ | with_reducible refine jS_st (by omega) (by omega) ?_ | with_reducible refine jS_ix (by omega) (by omega) ?_ | with_reducible refine jS_dv (by omega) ?_ | with_reducible refine jS_zb (by omega) ?_ | with_reducible refine jS_bb ?_ | with_reducible refine jS_inr ?_ | with_reducible refine jS_lsB ?_ | with_reducible refine jS_letB ?_ | with_reducible refine jS_ck0 (by omega) ?_ | with_reducible refine jS_ck0B (by omega) ?_ | rw [W32_in (by omega) (by omega)] | rw [W32_aL] | rw [W32_aR] | rw [W32_sL] | rw [W32_mR] | rw [jf_neg (by omega)] | rw [jf_pos (by omega)] | with_reducible refine jS_bb ?_))
      exact jS_end ⟨e1, e2, fun x x0 x1 c => e3 x x0 x1 c⟩
  · -- none
    have none : ∀ x, 0 ≤ x → x < o 2 2 0 → ¬ o 5 x 0 = y := fun x x0 x1 c => by
      have h1 := cn_lt (P := ofS o y) x0 x1 (by unfold ofS; simp [c])
      have h2 := cn_lo (P := ofS o y) x0
      have hnr : nRl o y = cn (ofS o y) (o 2 2 0) := rfl
      omega
    refine jS_for (fun k u => u = s) (fun k => [X, y, jf s 1000 (X + 24) (5 + y), k]) 0 (o 2 2 0) n5 rfl (fun k u k0 k1 e => ?_) (fun u e => ?_)
    · subst e
      show jE (b_X40_writeRelocations_11 u X y _ k) _
      unfold b_X40_writeRelocations_11
      have h1 := (hO.2.2.2.2.2 k k0 k1).1
      rw [z300] at h1
      rw [jlt_in (by omega) (by omega), Option.bind_some, hN, if_pos k1, jlt_in k0 (by omega), Option.bind_some, h1, if_neg (none k k0 k1), eu_X40_writeRelocations_107]; unfold du_X40_writeRelocations_107
      rw [W32_in (by omega) (by omega)]
      exact jS_end ⟨rfl, rfl⟩
    · subst e
      show jE (b_X40_writeRelocations_11 u X y _ (o 2 2 0)) _
      unfold b_X40_writeRelocations_11
      rw [jlt_in (by omega) (by omega), Option.bind_some, hN, if_neg (by omega)]
      (repeat (first | with_reducible refine jS_pos (by omega) ?_ | with_reducible refine jS_neg (by omega) ?_ | with_reducible refine jS_posB (by omega) ?_ | with_reducible refine jS_negB (by omega) ?_ | with_reducible refine jS_some ?_ | with_reducible refine jS_ls ?_ | with_reducible refine jS_let ?_ | with_reducible refine jS_lt (by omega) (by omega) ?_ | with_reducible refine jS_st (by omega) (by omega) ?_ | with_reducible refine jS_ix (by omega) (by omega) ?_ | with_reducible refine jS_dv (by omega) ?_ | with_reducible refine jS_zb (by omega) ?_ | with_reducible refine jS_bb ?_ | with_reducible refine jS_inr ?_ | with_reducible refine jS_lsB ?_ | with_reducible refine jS_letB ?_ | with_reducible refine jS_ck0 (by omega) ?_ | with_reducible refine jS_ck0B (by omega) ?_ | rw [W32_in (by omega) (by omega)] | rw [W32_aL] | rw [W32_aR] | rw [W32_sL] | rw [W32_mR] | rw [jf_neg (by omega)] | rw [jf_pos (by omega)] | with_reducible refine jS_bb ?_))
      exact jS_end ⟨fFl.rfl, fun _ _ => rfl, fun x x0 x1 c => absurd c (none x x0 x1)⟩
end jTput2
