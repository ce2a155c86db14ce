/-! the twin writes a file: all of it -/
section jTwrite2
variable {s t u : jS} {X x y n p v T l : Int} {o : Int → Int → Int → Int} {g g' : Int → Int} {Q : jS × Int → Prop}
theorem ordO (v : vOb o) : qO o 0 = 52 ∧ 52 ≤ bO o 0 ∧ bO o 0 ≤ qO o 1 ∧ qO o 1 ≤ bO o 1 ∧ bO o 1 ≤ qO o 2 ∧ qO o 2 ≤ bO o 2 ∧ bO o 2 ≤ qO o 3 ∧ qO o 3 ≤ bO o 3 ∧ bO o 3 ≤ qO o 4 ∧ qO o 4 ≤ bO o 4 ∧ bO o 4 ≤ qO o 5 ∧ qO o 5 ≤ bO o 5 ∧ bO o 5 ≤ qO o 6 ∧ qO o 6 ≤ bO o 6 ∧ bO o 6 ≤ qO o 7 ∧ qO o 7 ≤ bO o 7 ∧ bO o 7 ≤ qO o 8 ∧ qO o 8 ≤ bO o 8 ∧ bO o 8 + 16 ≤ qO o 9 ∧ qO o 9 ≤ bO o 9 ∧ bO o 9 ≤ qO o 10 ∧ qO o 10 ≤ bO o 10 ∧ bO o 10 ≤ qO o 11 ∧ qO o 11 ≤ tabO o ∧ tabO o + 40 ≤ totO o := by
  have h := fun (k k' : Nat) (hk : k < 11) (e : k' = k + 1) => in_tot2 v (k := k) (k' := k') hk e
  obtain ⟨t1, t2, t3, t4⟩ := tab_lo v
  obtain ⟨n1, n2, n3, n4, n5, n6⟩ := v.2.2.1
  have l8 : lnO o 8 = 16 + 16 * o 2 1 0 := rfl
  have h0 := h 0 1 (by omega) rfl
  have h1 := h 1 2 (by omega) rfl
  have h2 := h 2 3 (by omega) rfl
  have h3 := h 3 4 (by omega) rfl
  have h4 := h 4 5 (by omega) rfl
  have h5 := h 5 6 (by omega) rfl
  have h6 := h 6 7 (by omega) rfl
  have h7 := h 7 8 (by omega) rfl
  have h8 := h 8 9 (by omega) rfl
  have h9 := h 9 10 (by omega) rfl
  have h10 := h 10 11 (by omega) rfl
  clear h
  have hq : qO o 0 = 52 := rfl
  omega
/-- all that was written, region by region -/
theorem pFi_mk {G0 G1 G2 G3 G4 G5 G7 G9 G10 : Int → Int} (v : vOb o) (h0 : ∀ p, 0 ≤ p → p < totO o → G0 p = 0)
    (h1 : (∀ p, p < 0 ∨ 8 ≤ p ∧ p < 16 ∨ 24 ≤ p ∧ p < 32 ∨ 42 ≤ p ∧ p < 46 ∨ 52 ≤ p → G1 p = G0 p)) (f1 : pHd o G1)
    (h2 : ∀ p, (∀ k : Nat, k < 3 → ¬ (bO o k ≤ p ∧ p < qO o (k + 1))) → G2 p = G1 p) (f2 : pSc o G2)
    (h3 : ∀ p, ¬ (bO o 4 ≤ p ∧ p < qO o 5) → G3 p = G2 p) (f3 : pSs o G3)
    (h4 : ∀ p, (∀ k : Nat, k < 3 → ¬ (bO o (5 + k) ≤ p ∧ p < qO o (6 + k))) → G4 p = G3 p) (f4 : ∀ x, 0 ≤ x → x < o 2 2 0 → pRl o G4 x)
    (h5 : ∀ p, ¬ (bO o 8 + 16 ≤ p ∧ p < qO o 9) → G5 p = G4 p) (f5 : ∀ x, 0 ≤ x → x < o 2 1 0 → pSyB o G5 x)
    (h7 : ∀ p, ¬ (bO o 10 ≤ p ∧ p < qO o 11) → G7 p = G5 p) (f7 : ∀ i : Nat, i < (sTl (th o) 11).length → G7 (bO o 10 + i) = (sTl (th o) 11).getD i 0)
    (h9 : ∀ p, ¬ (bO o 9 ≤ p ∧ p < qO o 10) → G9 p = G7 p) (f9 : ∀ i : Nat, i < (sSy o (o 2 1 0).toNat).length → G9 (bO o 9 + i) = (sSy o (o 2 1 0).toNat).getD i 0)
    (h10 : ∀ p, ¬ (tabO o + 40 ≤ p ∧ p < totO o) → G10 p = G9 p) (f10 : ∀ k : Nat, k < 11 → th o k = true → pEn o G10 k) : pFi o G10 := by
  obtain ⟨q0, o1, o2, o3, o4, o5, o6, o7, o8, o9, o10, o11, o12, o13, o14, o15, o16, o17, o18, o19, o20, o21, o22, o23, o24⟩ := ordO v
  have k3 : ∀ p, ¬ (bO o 0 ≤ p ∧ p < qO o 1) → ¬ (bO o 1 ≤ p ∧ p < qO o 2) → ¬ (bO o 2 ≤ p ∧ p < qO o 3) → G2 p = G1 p := fun p a b c => h2 p fun k hk => by
    have : k = 0 ∨ k = 1 ∨ k = 2 := by omega
    rcases this with rfl | rfl | rfl
    · exact a
    · exact b
    · exact c
  have k5 : ∀ p, ¬ (bO o 5 ≤ p ∧ p < qO o 6) → ¬ (bO o 6 ≤ p ∧ p < qO o 7) → ¬ (bO o 7 ≤ p ∧ p < qO o 8) → G4 p = G3 p := fun p a b c => h4 p fun k hk => by
    have : k = 0 ∨ k = 1 ∨ k = 2 := by omega
    rcases this with rfl | rfl | rfl
    · exact a
    · exact b
    · exact c
  -- from a stage on
  have z9 : ∀ p, ¬ (tabO o + 40 ≤ p ∧ p < totO o) → G10 p = G9 p := h10
  have z7 : ∀ p, p < qO o 9 ∨ qO o 10 ≤ p ∧ p < tabO o + 40 → G10 p = G7 p := fun p hp => by rw [z9 p (by omega), h9 p (by omega)]
  have z5 : ∀ p, p < qO o 9 ∨ qO o 11 ≤ p ∧ p < tabO o + 40 → G10 p = G5 p := fun p hp => by rw [z7 p (by omega), h7 p (by omega)]
  have z4 : ∀ p, p < bO o 8 + 16 ∨ qO o 11 ≤ p ∧ p < tabO o + 40 → G10 p = G4 p := fun p hp => by rw [z5 p (by omega), h5 p (by omega)]
  have z3 : ∀ p, p < bO o 5 ∨ qO o 8 ≤ p ∧ p < bO o 8 + 16 ∨ qO o 11 ≤ p ∧ p < tabO o + 40 → G10 p = G3 p := fun p hp => by rw [z4 p (by omega), k5 p (by omega) (by omega) (by omega)]
  have z2 : ∀ p, p < bO o 4 ∨ qO o 5 ≤ p ∧ p < bO o 5 ∨ qO o 8 ≤ p ∧ p < bO o 8 + 16 ∨ qO o 11 ≤ p ∧ p < tabO o + 40 → G10 p = G2 p := fun p hp => by rw [z3 p (by omega), h3 p (by omega)]
  have z1 : ∀ p, p < bO o 0 ∨ qO o 3 ≤ p ∧ p < bO o 4 ∨ qO o 5 ≤ p ∧ p < bO o 5 ∨ qO o 8 ≤ p ∧ p < bO o 8 + 16 ∨ qO o 11 ≤ p ∧ p < tabO o + 40 → G10 p = G1 p := fun p hp => by rw [z2 p (by omega), k3 p (by omega) (by omega) (by omega)]
  have z0 : ∀ p, 52 ≤ p → p < totO o → (p < bO o 0 ∨ qO o 3 ≤ p ∧ p < bO o 4 ∨ qO o 5 ≤ p ∧ p < bO o 5 ∨ qO o 8 ≤ p ∧ p < bO o 8 + 16 ∨ qO o 11 ≤ p ∧ p < tabO o + 40) → G10 p = 0 := fun p a b hp => by rw [z1 p hp, h1 p (by omega), h0 p (by omega) b]
  have in_ := fun (k k' : Nat) (hk : k < 11) (e : k' = k + 1) => (in_tot2 v (k := k) (k' := k') hk e).2.2.1
  refine ⟨?_, ?_, ?_, ?_, ⟨?_, ?_⟩, ?_, ?_, ⟨?_, f10⟩, ?_, ?_⟩
  · obtain ⟨a1, a2, a3, a4, a5, a6, a7, a8, a9, a10, a11, a12, a13, a14⟩ := f1
    have z : ∀ p, p < 52 → G10 p = G1 p := fun p hp => z1 p (by omega)
    exact ⟨a1.of fun q _ _ => z q (by omega), a2.of fun q _ _ => z q (by omega), fun k k0 k1 => by rw [z k (by omega)]; exact a3 k k0 k1, a4.of fun q _ _ => z q (by omega), a5.of fun q _ _ => z q (by omega), a6.of fun q _ _ => z q (by omega), fun k k0 k1 => by rw [z k (by omega)]; exact a7 k k0 k1, a8.of fun q _ _ => z q (by omega), a9.of fun q _ _ => z q (by omega), a10.of fun q _ _ => z q (by omega), fun k k0 k1 => by rw [z k (by omega)]; exact a11 k k0 k1, a12.of fun q _ _ => z q (by omega), a13.of fun q _ _ => z q (by omega), a14.of fun q _ _ => z q (by omega)⟩
  · intro x hx k k0 k1
    rw [z2 _ ?_]
    · exact f2 x hx k k0 k1
    · have : x = 0 ∨ x = 1 ∨ x = 2 := by omega
      have i0 := in_ 0 1 (by omega) rfl
      have i1 := in_ 1 2 (by omega) rfl
      have i2 := in_ 2 3 (by omega) rfl
      have l0 : lnO o 0 = o 1 0 0 := rfl
      have l1 : lnO o 1 = o 1 1 0 := rfl
      have l2 : lnO o 2 = o 1 2 0 := rfl
      rcases this with rfl | rfl | rfl
      · have k1' : k < o 1 0 0 := k1
        show bO o 0 + k < bO o 4 ∨ _
        omega
      · have k1' : k < o 1 1 0 := k1
        show bO o 1 + k < bO o 4 ∨ _
        omega
      · have k1' : k < o 1 2 0 := k1
        show bO o 2 + k < bO o 4 ∨ _
        omega
  · intro k k0 k1
    have i4 := in_ 4 5 (by omega) rfl
    have l4 : lnO o 4 = 2 * o 2 0 0 := rfl
    exact (f3 k k0 k1).of fun q a b => z3 q (by omega)
  · intro x x0 x1
    have hv := v.2.2.2.2.2 x x0 x1
    refine (f4 x x0 x1).of v x0 x1 fun p a b => z4 p ?_
    have h8 := qO_mono v (i := 6 + (o 5 x 0).toNat) (j := 8) (by have := hv.1; have := hv.2.1; omega)
    omega
  · intro k k0 k1
    exact z0 k (by omega) (by omega) (by omega)
  · intro x x0 x1
    have i8 := in_ 8 9 (by omega) rfl
    have l8 : lnO o 8 = 16 + 16 * o 2 1 0 := rfl
    have ht := tn_lo x0 x1
    have ea : aSy o x = bO o 8 + 16 + 16 * tn o x := rfl
    exact (f5 x x0 x1).of fun p a b => z5 p (by omega)
  · intro i hi
    have i9 := in_ 9 10 (by omega) rfl
    have l9 : lnO o 9 = (sSy o (o 2 1 0).toNat).length := rfl
    rw [z9 _ (by omega)]; exact f9 i hi
  · intro i hi
    have i10 := in_ 10 11 (by omega) rfl
    have l10 : lnO o 10 = (sTl (th o) 11).length := rfl
    rw [z7 _ (by omega)]; exact f7 i hi
  · intro k k0 k1
    exact z0 k (by omega) (by omega) (by omega)
  · intro k hk p p0 p1
    have : k = 0 ∨ k = 1 ∨ k = 2 ∨ k = 3 ∨ k = 4 ∨ k = 5 ∨ k = 6 ∨ k = 7 ∨ k = 8 ∨ k = 9 ∨ k = 10 := by omega
    -- no part is there
    have nz : G10 p = 0 := by
      have c1 : G10 p = G0 p := by
        rcases this with rfl | rfl | rfl | rfl | rfl | rfl | rfl | rfl | rfl | rfl | rfl
        all_goals rw [z9 p (by omega), h9 p (by omega), h7 p (by omega), h5 p (by omega), k5 p (by omega) (by omega) (by omega), h3 p (by omega), k3 p (by omega) (by omega) (by omega), h1 p (by omega)]
      have hq := qO_mono v (i := 0) (j := k) (by omega)
      have hb : p < totO o := by
        have := in_tot v hk
        omega
      rw [c1, h0 p (by omega) hb]
    exact nz
  · intro p p0 p1
    exact z0 p (by omega) (by omega) (by omega)
theorem t_write (hO : tOb s X 0 o) (v : vOb o) (hP : pTi s X) : jE (m_X40_write s X) fun q => fWr s q.1 X ∧ ((∃ r, ftO o r ∧ r ≠ 0 ∧ q.2 = r ∧ q.1 = s) ∨ ftO o 0 ∧ 8192 < totO o ∧ q.2 = -4 ∧ jf q.1 44 X 22 = jf s 44 X 22 ∧ (∀ k, fG q.1 X k = fG s X k) ∨ ftO o 0 ∧ totO o ≤ 8192 ∧ q.2 = totO o ∧ jf q.1 44 X 22 = totO o ∧ pFi o (fG q.1 X)) := by
  obtain ⟨r, er, hr⟩ := t_unfit hO v
  rw [em_X40_write]; unfold dm_X40_write
  rw [er, Option.bind_some]
  by_cases c0 : ¬ r = 0
  · rw [if_neg c0]
    exact jS_end ⟨⟨jSm.rfl, fun _ _ _ _ _ => rfl⟩, .inl ⟨r, hr, c0, rfl, rfl⟩⟩
  replace c0 := Decidable.not_not.mp c0
  subst c0
  have nb : ¬ bd1 o := by
    rcases hr with h | h | h | h
    · omega
    · exact h.1
    · exact h.1
    · exact h.1
  rw [if_pos rfl]
  refine jS_call (tLay_y hO v hP) fun q ⟨e1, e2, e3⟩ => ?_
  obtain ⟨t1, t2, t3, t4⟩ := tab_lo v
  have hq := qO_lo v 11
  have he := enT_lo (T := th o) 11
  rw [e1, e3.2.2.2.1, W32_in (z := 40 * enT (th o) 11) (by omega) (by omega), W32_in (by omega) (by omega), ← t3]
  by_cases c1 : 8192 < totO o
  · rw [if_pos c1]
    exact jS_end ⟨e2.wr, .inr (.inl ⟨hr, c1, rfl, e2.2 _ _ _ (by omega) (by omega), fun k => e2.r (by omega) k⟩)⟩
  rw [if_neg c1]
  have hT : totO o ≤ 8192 := by omega
  have hO1 := hO.wr e2.wr v
  refine jS_call (t_order hO1 v) fun q' ⟨d1, d2, d3, d4⟩ => ?_
  simp only [jls]
  rw [show jf q'.1 44 X 40 = enT (th o) 11 by rw [d3 _ _ _ (by omega)]; exact e3.2.2.2.1, W32_in (z := 40 * enT (th o) 11) (by omega) (by omega), W32_in (by omega) (by omega), ← t3, d1]
  have w1 : fWr s (jp q'.1 44 X 22 (totO o)) X := e2.wr.trans ⟨d2.jp, fun c a k p q => by rw [jf_neg (by omega)]; exact d3 _ _ _ (by omega)⟩
  have L1 : tLO (jp q'.1 44 X 22 (totO o)) X o := by
    obtain ⟨a1, a2, a3, a4, a5, a6⟩ := e3
    have r : ∀ a k, ¬ a = X + 30 → jf (jp q'.1 44 X 22 (totO o)) 1000 a k = jf q.1 1000 a k := fun a k h => by rw [jf_neg (by omega)]; exact d3 _ _ _ (by omega)
    refine ⟨fun k hk c => by rw [r _ _ (by omega)]; exact a1 k hk c, fun k hk => by rw [r _ _ (by omega)]; exact a2 k hk, fun k hk => by rw [r _ _ (by omega)]; exact a3 k hk, ?_, fun x x0 x1 => ⟨?_, by rw [r _ _ (by omega)]; exact (a5 x x0 x1).2⟩, fun k hk c => by rw [r _ _ (by omega)]; exact a6 k hk c⟩
    · rw [jf_neg (by omega), d3 _ _ _ (by omega)]; exact a4
    · rw [jf_neg (by omega)]; exact d4 x x0 x1
  have f22 : jf (jp q'.1 44 X 22 (totO o)) 44 X 22 = totO o := by (repeat (first | rw [jf_neg (by omega)] | rw [jf_pos (by omega)] | rw [ou_neg (by omega)] | rw [ou_pos (by omega)]))
  generalize jp q'.1 44 X 22 (totO o) = s0 at w1 L1 f22 ⊢
  clear e1 e2 e3 d1 d2 d3 d4 hO1
  -- zeros
  have ez : u_X40_write_55 s0 X (tabO o) (nLc o) 0 = u_X40_write_78 (jfil s0 1000 (X + 21) 0 (totO o) (fun _ => 0)) X (tabO o) (nLc o) := by
    rw [eu_X40_write_55]; unfold du_X40_write_55
    refine jloop_fill (fun k => [X, tabO o, nLc o, k]) s0 1000 (X + 21) 0 (totO o) (fun _ => 0) (by omega) (fun k k0 k1 => ?_) ?_
    · show b_X40_write_55 _ X _ _ k = _
      unfold b_X40_write_55
      rw [jfl_neg (by omega), f22, if_pos k1, jst_in k0 (by omega), Option.bind_some, W32_in (by omega) (by omega), Int.zero_add]
    · show b_X40_write_55 _ X _ _ (totO o) = _
      unfold b_X40_write_55
      rw [jfl_neg (by omega), f22, if_neg (by omega)]
  rw [ez]
  have F1 : fFl s0 (jfil s0 1000 (X + 21) 0 (totO o) (fun _ => 0)) X := fFl.rfl.jw
  have G0 : ∀ p, 0 ≤ p → p < totO o → fG (jfil s0 1000 (X + 21) 0 (totO o) (fun _ => 0)) X p = 0 := fun p p0 p1 => by rw [fG_w, if_pos (by omega)]
  generalize jfil s0 1000 (X + 21) 0 (totO o) (fun _ => 0) = s1 at F1 G0 ⊢
  have W1 := w1.trans F1.wr
  have L2 := L1.fl F1
  have n22 : jf s1 44 X 22 = totO o := by rw [F1.i]; exact f22
  clear w1 L1 f22 F1 ez
  rw [eu_X40_write_78]; unfold du_X40_write_78
  refine jS_call (tHead_y (hO.wr W1 v) v L2 nb) fun q ⟨a1, a2, a3⟩ => ?_
  have a3 := a3 fun p p0 p1 => G0 p p0 (by omega)
  have W2 := W1.trans a1.wr
  have n2 := (a1.i 22).trans n22
  refine ph_sec (hO.wr W2 v) v (L2.fl a1) hT fun s2 b1 b2 b3 => ?_
  have W3 := W2.trans b1.wr
  have L3 := (L2.fl a1).fl b1
  have n3 := (b1.i 22).trans n2
  refine ph_st (hO.wr W3 v) v L3 hT fun s3 c1 c2 c3 => ?_
  have W4 := W3.trans c1.wr
  have L4 := L3.fl c1
  have n4 := (c1.i 22).trans n3
  refine ph_rl (hO.wr W4 v) v L4 hT fun s4 d1 d2 d3 => ?_
  have W5 := W4.trans d1.wr
  have L5 := L4.fl d1
  have n5 := (d1.i 22).trans n4
  rw [eu_X40_write_211]; unfold du_X40_write_211
  -- symbols
  obtain ⟨q0, o1, o2, o3, o4, o5, o6, o7, o8, o9, o10, o11, o12, o13, o14, o15, o16, o17, o18, o19, o20, o21, o22, o23, o24⟩ := ordO v
  have z8 : ∀ p, bO o 8 ≤ p → p < qO o 9 → fG s4 X p = 0 := fun p p0 p1 => by
    rw [d2 p fun k hk => ?_, c2 p (by omega), b2 p fun k hk => ?_, a2 p (by omega), G0 p (by omega) (by omega)]
    · have := qO_mono v (i := 6 + k) (j := 8) (by omega)
      have := qO_mono v (i := k + 1) (j := 3) (by omega)
      omega
    · have := qO_mono v (i := 6 + k) (j := 8) (by omega)
      have := qO_mono v (i := k + 1) (j := 3) (by omega)
      omega
  refine jS_call (ph_sy (hO.wr W5 v) v L5 hT z8) fun q5 ⟨y1, y2, y3⟩ => ?_
  have W6 := W5.trans y1.wr
  have L6 := L5.fl y1
  have n6 := (y1.i 22).trans n5
  -- titles
  have hE : ∀ k : Nat, k < 11 → (jf q5.1 1000 (X + 26) k = 0 ↔ ¬ th o k = true) := fun k hk => by rw [L6.2.2.1 k hk]; exact en_z k
  refine jS_call (t_titles (T := th o) (hP.wr W6) hE) fun q6 ⟨r1, r2, r3, r4, r5⟩ => ?_
  have W7 := W6.trans r2.wr
  have L7 := L6.str r2 (fun x x0 x1 => by rw [r5]; exact (L6.2.2.2.2.1 x x0 x1).2) r4
  have n7 := (r2.i (k := 22) (by omega)).trans n6
  rw [r1, ph_tis L7 v hT r3]
  have F7 : fFl q6.1 (jfil q6.1 1000 (X + 21) (bO o 10) (sTl (th o) 11).length (fun i => (sTl (th o) 11).getD i.toNat 0)) X := fFl.rfl.jw
  have i10 : qO o 11 = bO o 10 + (sTl (th o) 11).length := (in_tot2 v (k := 10) (k' := 11) (by omega) rfl).2.2.1
  have g7 : ∀ p, ¬ (bO o 10 ≤ p ∧ p < qO o 11) → fG (jfil q6.1 1000 (X + 21) (bO o 10) (sTl (th o) 11).length (fun i => (sTl (th o) 11).getD i.toNat 0)) X p = fG q5.1 X p := fun p hp => by
    rw [fG_n (by omega)]; exact r2.r (by omega) p
  have g7' : ∀ i : Nat, i < (sTl (th o) 11).length → fG (jfil q6.1 1000 (X + 21) (bO o 10) (sTl (th o) 11).length (fun i => (sTl (th o) 11).getD i.toNat 0)) X (bO o 10 + i) = (sTl (th o) 11).getD i 0 := fun i hi => fG_row hi
  generalize jfil q6.1 1000 (X + 21) (bO o 10) (sTl (th o) 11).length (fun i => (sTl (th o) 11).getD i.toNat 0) = s7 at F7 g7 g7' ⊢
  have W8 := W7.trans F7.wr
  have L8 := L7.fl F7
  have n8 := (F7.i 22).trans n7
  -- names
  rw [eu_X40_write_259]; unfold du_X40_write_259
  refine jS_call (t_syNames (hO.wr W8 v) v fun x x0 x1 => (L8.2.2.2.2.1 x x0 x1).1) fun q8 ⟨m1, m2, m3, m4, m5⟩ => ?_
  have W9 := W8.trans m2.wr
  have L9 := L8.str m2 m4 (fun k hk c => by rw [m5]; exact L8.2.2.2.2.2 k hk c)
  have n9 := (m2.i (k := 22) (by omega)).trans n8
  rw [m1, ph_nms L9 v hT m3]
  have F9 : fFl q8.1 (jfil q8.1 1000 (X + 21) (bO o 9) (sSy o (o 2 1 0).toNat).length (fun i => (sSy o (o 2 1 0).toNat).getD i.toNat 0)) X := fFl.rfl.jw
  have i9 : qO o 10 = bO o 9 + (sSy o (o 2 1 0).toNat).length := (in_tot2 v (k := 9) (k' := 10) (by omega) rfl).2.2.1
  have g9 : ∀ p, ¬ (bO o 9 ≤ p ∧ p < qO o 10) → fG (jfil q8.1 1000 (X + 21) (bO o 9) (sSy o (o 2 1 0).toNat).length (fun i => (sSy o (o 2 1 0).toNat).getD i.toNat 0)) X p = fG s7 X p := fun p hp => by
    rw [fG_n (by omega)]; exact m2.r (by omega) p
  have g9' : ∀ i : Nat, i < (sSy o (o 2 1 0).toNat).length → fG (jfil q8.1 1000 (X + 21) (bO o 9) (sSy o (o 2 1 0).toNat).length (fun i => (sSy o (o 2 1 0).toNat).getD i.toNat 0)) X (bO o 9 + i) = (sSy o (o 2 1 0).toNat).getD i 0 := fun i hi => fG_row hi
  generalize jfil q8.1 1000 (X + 21) (bO o 9) (sSy o (o 2 1 0).toNat).length (fun i => (sSy o (o 2 1 0).toNat).getD i.toNat 0) = s9 at F9 g9 g9' ⊢
  have W10 := W9.trans F9.wr
  have L10 := L9.fl F9
  have n10 := (F9.i 22).trans n9
  -- entries
  have zt : ∀ p, tabO o + 40 ≤ p → p < totO o → fG s9 X p = 0 := fun p p0 p1 => by
    rw [g9 p (by omega), g7 p (by omega), y2 p (by omega), d2 p fun k hk => ?_, c2 p (by omega), b2 p fun k hk => ?_, a2 p (by omega), G0 p (by omega) (by omega)]
    · have := qO_mono v (i := 6 + k) (j := 8) (by omega)
      have := qO_mono v (i := k + 1) (j := 3) (by omega)
      omega
    · have := qO_mono v (i := 6 + k) (j := 8) (by omega)
      have := qO_mono v (i := k + 1) (j := 3) (by omega)
      omega
  refine ph_en (hO.wr W10 v) v L10 hT zt fun s10 x1 x2 x3 => ?_
  rw [eu_X40_write_348]; unfold du_X40_write_348
  have nf := (x1.i 22).trans n10
  refine jS_end ⟨W10.trans x1.wr, .inr (.inr ⟨hr, hT, nf, nf, ?_⟩)⟩
  exact pFi_mk v G0 a2 a3 b2 b3 c2 c3 d2 d3 y2 y3 g7 g7' g9 g9' x2 x3
end jTwrite2
