/-! the component's object that is made: align, start, letter, symbol, relocation -/
section jMade2
variable {s t u : jS} {b O X y z lo n x : Int} {o : Int → Int → Int → Int} {w w' d : Int → Int}
/-- a row of the value has other numbers: the other families are as they were -/
theorem vObT.val {o' : Int → Int → Int → Int} (h : vObT o) (e : o' 2 0 0 = o 2 0 0) (e' : ∀ k, o' 3 k 0 = o 3 k 0) : vObT o' := by
  unfold vObT at *
  simp only [e, e']; exact h
theorem vObB.val {o' : Int → Int → Int → Int} (h : vObB o) (e : ∀ x, o' 1 x 0 = o 1 x 0) (e' : ∀ x k, o' 0 x k = o 0 x k) : vObB o' := by
  unfold vObB at *
  simp only [e, e']; exact h
theorem vObN.val {o' : Int → Int → Int → Int} (h : vObN o) (e : ∀ k, o' 2 k 0 = o 2 k 0) : vObN o' := by
  unfold vObN at *
  simp only [e]; exact h
theorem shl_1 {p : Int} (h0 : 0 ≤ p) (h1 : p ≤ 6) : I_shl 1 p = 2 ^ p.toNat ∧ pPw (2 ^ p.toNat) := by
  have : p = 0 ∨ p = 1 ∨ p = 2 ∨ p = 3 ∨ p = 4 ∨ p = 5 ∨ p = 6 := by omega
  rcases this with rfl | rfl | rfl | rfl | rfl | rfl | rfl <;> refine ⟨?_, by unfold pPw; decide⟩ <;> rw [i_shl_p (by omega) (by omega)] <;> exact W32_in (by decide) (by decide)
theorem c_malign (h : cMk s O o d) {p : Int} (x0 : 0 ≤ x) (x1 : x < 4) (p0 : 0 ≤ p) (p1 : p ≤ 6) : jE (m_X13_align s O x p) fun q => jFx s q.1 O 1858 ∧ cMk q.1 O (ou o 1 x 1 (2 ^ p.toNat)) d := by
  obtain ⟨hT, hO, hv, hd, hvd⟩ := h
  rw [em_X13_align]; unfold dm_X13_align
  refine jS_e (in_1 (by omega) (by omega)) ?_
  (repeat (first | with_reducible refine jS_pos (by omega) ?_ | with_reducible refine jS_neg (by omega) ?_ | with_reducible refine jS_posB (by omega) ?_ | with_reducible refine jS_negB (by omega) ?_ | with_reducible refine jS_some ?_ | with_reducible refine jS_ls ?_ | with_reducible refine jS_let ?_ | with_reducible refine jS_lt (by omega) (by omega) ?_ | with_reducible refine jS_st (by omega) (by omega) ?_ | with_reducible refine jS_ix (by omega) (by omega) ?_ | with_reducible refine jS_dv (by omega) ?_ | with_reducible refine jS_zb (by omega) ?_ | with_reducible refine jS_bb ?_ | with_reducible refine jS_inr ?_ | with_reducible refine jS_lsB ?_ | with_reducible refine jS_letB ?_ | with_reducible refine jS_ck0 (by omega) ?_ | with_reducible refine jS_ck0B (by omega) ?_ | rw [W32_in (by omega) (by omega)] | rw [W32_aL] | rw [W32_aR] | rw [W32_sL] | rw [W32_mR] | rw [jf_neg (by omega)] | rw [jf_pos (by omega)] | with_reducible refine jS_bb ?_))
  refine jS_e (in_1 (by omega) (by omega)) ?_
  (repeat (first | with_reducible refine jS_pos (by omega) ?_ | with_reducible refine jS_neg (by omega) ?_ | with_reducible refine jS_posB (by omega) ?_ | with_reducible refine jS_negB (by omega) ?_ | with_reducible refine jS_some ?_ | with_reducible refine jS_ls ?_ | with_reducible refine jS_let ?_ | with_reducible refine jS_lt (by omega) (by omega) ?_ | with_reducible refine jS_st (by omega) (by omega) ?_ | with_reducible refine jS_ix (by omega) (by omega) ?_ | with_reducible refine jS_dv (by omega) ?_ | with_reducible refine jS_zb (by omega) ?_ | with_reducible refine jS_bb ?_ | with_reducible refine jS_inr ?_ | with_reducible refine jS_lsB ?_ | with_reducible refine jS_letB ?_ | with_reducible refine jS_ck0 (by omega) ?_ | with_reducible refine jS_ck0B (by omega) ?_ | rw [W32_in (by omega) (by omega)] | rw [W32_aL] | rw [W32_aR] | rw [W32_sL] | rw [W32_mR] | rw [jf_neg (by omega)] | rw [jf_pos (by omega)] | with_reducible refine jS_bb ?_))
  obtain ⟨e1, e2⟩ := shl_1 p0 p1
  rw [e1]
  obtain ⟨hL, hA, hB, hN, hS, hY, hR⟩ := hO
  have nv : ∀ c a, ¬ (c = 1 ∧ a = x) → ou o 1 x 1 (2 ^ p.toNat) c a = o c a := fun c a e => ou_row e
  have nw : ∀ a, ou o 1 x 1 (2 ^ p.toNat) 1 a 0 = o 1 a 0 := fun a => ou_neg (by omega)
  refine jS_end (cMk.of hT (jFx.rfl.jp rfl (by omega) (by omega)) ⟨hL, fun y y0 y1 => ?_, fun y k y0 y1 k0 k1 => ?_, (hN.keep fun k => by (repeat (first | rw [jf_neg (by omega)] | rw [jf_pos (by omega)] | rw [ou_neg (by omega)] | rw [ou_pos (by omega)]))).val fun k => by rw [nv _ _ (by omega)], (hS.keep fun k => by (repeat (first | rw [jf_neg (by omega)] | rw [jf_pos (by omega)] | rw [ou_neg (by omega)] | rw [ou_pos (by omega)]))).val (by rw [nv _ _ (by omega)]) (fun k => by rw [nv _ _ (by omega)]), (hY.keep hv.2.2.1 fun c a k a0 a1 => by (repeat (first | rw [jf_neg (by omega)] | rw [jf_pos (by omega)] | rw [ou_neg (by omega)] | rw [ou_pos (by omega)]))).val (by rw [nv _ _ (by omega)]) (fun k => by rw [nv _ _ (by omega)]), (hR.keep hv.2.2.1 fun c a k a0 a1 => by (repeat (first | rw [jf_neg (by omega)] | rw [jf_pos (by omega)] | rw [ou_neg (by omega)] | rw [ou_pos (by omega)]))).val (by rw [nv _ _ (by omega)]) (fun k => by rw [nv _ _ (by omega)])⟩ ⟨fun y y0 y1 => ?_, hv.2.1.val nw (fun y k => by rw [nv _ _ (by omega)]), hv.2.2.1.val (fun k => by rw [nv _ _ (by omega)]), hv.2.2.2.1.val (by rw [nv _ _ (by omega)]) (fun k => by rw [nv _ _ (by omega)]), ?_, ?_⟩ (hd.keep fun c a k a0 a1 => by (repeat (first | rw [jf_neg (by omega)] | rw [jf_pos (by omega)] | rw [ou_neg (by omega)] | rw [ou_pos (by omega)]))) hvd)
  · by_cases e : y = x
    · subst e; (repeat (first | rw [jf_neg (by omega)] | rw [jf_pos (by omega)] | rw [ou_neg (by omega)] | rw [ou_pos (by omega)])); exact ⟨(hA y y0 y1).1, rfl⟩
    · (repeat (first | rw [jf_neg (by omega)] | rw [jf_pos (by omega)] | rw [ou_neg (by omega)] | rw [ou_pos (by omega)])); exact hA y y0 y1
  · rw [nw] at k1
    rw [nv _ _ (by omega)]; (repeat (first | rw [jf_neg (by omega)] | rw [jf_pos (by omega)] | rw [ou_neg (by omega)] | rw [ou_pos (by omega)])); exact hB y k y0 y1 k0 k1
  · by_cases e : y = x
    · subst e; rw [ou_pos ⟨rfl, rfl, rfl⟩, nw]
      exact ⟨(hv.1 y y0 y1).1, (hv.1 y y0 y1).2.1, e2⟩
    · rw [nv _ _ (by omega)]; exact hv.1 y y0 y1
  · intro k
    rw [nv _ _ (by omega), nv _ _ (by omega)]; exact hv.2.2.2.2.1 k
  · intro k
    rw [nv _ _ (by omega), nv _ _ (by omega), nv _ _ (by omega)]; exact hv.2.2.2.2.2 k
/-- a start more -/
def stOK (o : Int → Int → Int → Int) (x : Int) : Prop := o 2 0 0 ≠ 1024 ∧ 0 ≤ x ∧ x ≤ 2046 ∧ x % 2 = 0 ∧ (0 < o 2 0 0 → o 3 (o 2 0 0 - 1) 0 < x)
def oStart (o : Int → Int → Int → Int) (x : Int) : Int → Int → Int → Int := ou (ou o 3 (o 2 0 0) 0 x) 2 0 0 (o 2 0 0 + 1)
theorem vStart (v : vOb o) (g : stOK o x) : vOb (oStart o x) := by
  obtain ⟨g1, g2, g3, g4, g5⟩ := g
  obtain ⟨v1, v2, v3, v4, v5, v6⟩ := v
  have nv : ∀ c a, ¬ (c = 3 ∧ a = o 2 0 0) → ¬ (c = 2 ∧ a = 0) → oStart o x c a = o c a := fun c a e e' => by unfold oStart; rw [ou_row e', ou_row e]
  obtain ⟨n1, n2, n3, n4, n5, n6⟩ := v3
  have n0 : oStart o x 2 0 0 = o 2 0 0 + 1 := ou_pos ⟨rfl, rfl, rfl⟩
  refine ⟨fun y y0 y1 => by rw [nv _ _ (by omega) (by omega)]; exact v1 y y0 y1, v2.val (fun y => by rw [nv _ _ (by omega) (by omega)]) (fun y k => by rw [nv _ _ (by omega) (by omega)]), ?_, ?_, ?_, ?_⟩
  · unfold vObN
    rw [n0, nv _ _ (by omega) (by omega), nv _ _ (by omega) (by omega)]
    omega
  · intro k k0 k1
    rw [n0] at k1
    have hx : oStart o x 3 (o 2 0 0) 0 = x := by unfold oStart; (repeat (first | rw [jf_neg (by omega)] | rw [jf_pos (by omega)] | rw [ou_neg (by omega)] | rw [ou_pos (by omega)]))
    by_cases e : k = o 2 0 0
    · subst e
      rw [hx]
      refine ⟨g2, g3, g4, fun j j0 j1 => ?_⟩
      rw [nv _ _ (by omega) (by omega)]
      by_cases e' : j = o 2 0 0 - 1
      · subst e'; exact g5 (by omega)
      · have a1 := (v4 (o 2 0 0 - 1) (by omega) (by omega)).2.2.2 j j0 (by omega)
        have a2 := g5 (by omega)
        omega
    · rw [nv _ _ (by omega) (by omega)]
      obtain ⟨h1, h2, h3, h4⟩ := v4 k k0 (by omega)
      exact ⟨h1, h2, h3, fun j j0 j1 => by rw [nv _ _ (by omega) (by omega)]; exact h4 j j0 j1⟩
  · intro k
    rw [nv _ _ (by omega) (by omega), nv _ _ (by omega) (by omega)]; exact v5 k
  · intro k
    rw [nv _ _ (by omega) (by omega), nv _ _ (by omega) (by omega), nv _ _ (by omega) (by omega)]; exact v6 k
theorem c_start (h : cOb s b o) (v : vOb o) (hx : jin x) (hs : x < 2048) : jE (m_X14_start s b x) fun q => jFx s q.1 b 613 ∧ (stOK o x ∧ q.2 = 1 ∧ cOb q.1 b (oStart o x) ∨ ¬ stOK o x ∧ q.2 = 0 ∧ q.1 = s) := by
  obtain ⟨hL, hA, hB, hN, hT, hY, hR⟩ := h
  have hn := v.2.2.1
  obtain ⟨m1, m2, m3, m4, m5, m6⟩ := hn
  have n1 := hN.1
  unfold jin at hx
  rw [em_X14_start]; unfold dm_X14_start
  simp only [em_X14_start, dm_X14_start, eu_X14_start_44, du_X14_start_44, n1]
  have hi : I_rem x 2 = 0 ↔ x % 2 = 0 := I_rem_0 ⟨hx.1, hx.2⟩ (by omega) (by omega)
  have no : ¬ stOK o x → jFx s s b 613 ∧ (stOK o x ∧ Wz 0 = 1 ∧ cOb s b (oStart o x) ∨ ¬ stOK o x ∧ Wz 0 = 0 ∧ s = s) := fun q => ⟨jFx.rfl, .inr ⟨q, Wz_0, rfl⟩⟩
  by_cases c1 : o 2 0 0 = 1024
  · (repeat (first | with_reducible refine jS_pos (by omega) ?_ | with_reducible refine jS_neg (by omega) ?_ | with_reducible refine jS_posB (by omega) ?_ | with_reducible refine jS_negB (by omega) ?_ | with_reducible refine jS_some ?_ | with_reducible refine jS_ls ?_ | with_reducible refine jS_let ?_ | with_reducible refine jS_lt (by omega) (by omega) ?_ | with_reducible refine jS_st (by omega) (by omega) ?_ | with_reducible refine jS_ix (by omega) (by omega) ?_ | with_reducible refine jS_dv (by omega) ?_ | with_reducible refine jS_zb (by omega) ?_ | with_reducible refine jS_bb ?_ | with_reducible refine jS_inr ?_ | with_reducible refine jS_lsB ?_ | with_reducible refine jS_letB ?_ | with_reducible refine jS_ck0 (by omega) ?_ | with_reducible refine jS_ck0B (by omega) ?_ | rw [W32_in (by omega) (by omega)] | rw [W32_aL] | rw [W32_aR] | rw [W32_sL] | rw [W32_mR] | rw [jf_neg (by omega)] | rw [jf_pos (by omega)] | with_reducible refine jS_bb ?_))
    exact jS_end (no fun z => z.1 c1)
  by_cases c2 : x < 0
  · (repeat (first | with_reducible refine jS_pos (by omega) ?_ | with_reducible refine jS_neg (by omega) ?_ | with_reducible refine jS_posB (by omega) ?_ | with_reducible refine jS_negB (by omega) ?_ | with_reducible refine jS_some ?_ | with_reducible refine jS_ls ?_ | with_reducible refine jS_let ?_ | with_reducible refine jS_lt (by omega) (by omega) ?_ | with_reducible refine jS_st (by omega) (by omega) ?_ | with_reducible refine jS_ix (by omega) (by omega) ?_ | with_reducible refine jS_dv (by omega) ?_ | with_reducible refine jS_zb (by omega) ?_ | with_reducible refine jS_bb ?_ | with_reducible refine jS_inr ?_ | with_reducible refine jS_lsB ?_ | with_reducible refine jS_letB ?_ | with_reducible refine jS_ck0 (by omega) ?_ | with_reducible refine jS_ck0B (by omega) ?_ | rw [W32_in (by omega) (by omega)] | rw [W32_aL] | rw [W32_aR] | rw [W32_sL] | rw [W32_mR] | rw [jf_neg (by omega)] | rw [jf_pos (by omega)] | with_reducible refine jS_bb ?_))
    exact jS_end (no fun z => by have := z.2.1; omega)
  by_cases c3 : x % 2 = 0
  · have yes : stOK o x → jFx s (jp (jp s 1003 (b + 2) (o 2 0 0) (W16 (W16 x))) 18 b 2 (o 2 0 0 + 1)) b 613 ∧ (stOK o x ∧ Wz 1 = 1 ∧ cOb (jp (jp s 1003 (b + 2) (o 2 0 0) (W16 (W16 x))) 18 b 2 (o 2 0 0 + 1)) b (oStart o x) ∨ ¬ stOK o x ∧ Wz 1 = 0 ∧ jp (jp s 1003 (b + 2) (o 2 0 0) (W16 (W16 x))) 18 b 2 (o 2 0 0 + 1) = s) := by
      intro g
      rw [W16_in (v := x) (by omega) (by omega), W16_in (by omega) (by omega)]
      have nv : ∀ c a, ¬ (c = 3 ∧ a = o 2 0 0) → ¬ (c = 2 ∧ a = 0) → oStart o x c a = o c a := fun c a e e' => by unfold oStart; rw [ou_row e', ou_row e]
      refine ⟨(jFx.rfl.jp (jSs_a (by omega) rfl _) (by omega) (by omega)).jp rfl (by omega) (by omega), .inl ⟨g, Wz_1, hL, ?_, ?_, ⟨?_, ?_, ?_⟩, fun j j0 j1 => ?_, ?_, ?_⟩⟩
      · exact (hA.keep fun y k _ _ => by (repeat (first | rw [jf_neg (by omega)] | rw [jf_pos (by omega)] | rw [ou_neg (by omega)] | rw [ou_pos (by omega)]))).val fun y k => by rw [nv _ _ (by omega) (by omega)]
      · exact (hB.keep fun y k _ _ => by (repeat (first | rw [jf_neg (by omega)] | rw [jf_pos (by omega)] | rw [ou_neg (by omega)] | rw [ou_pos (by omega)]))).val (fun y k => by rw [nv _ _ (by omega) (by omega)]) (fun y k => by rw [nv _ _ (by omega) (by omega)])
      · unfold oStart; (repeat (first | rw [jf_neg (by omega)] | rw [jf_pos (by omega)] | rw [ou_neg (by omega)] | rw [ou_pos (by omega)]))
      · rw [nv _ _ (by omega) (by omega)]; (repeat (first | rw [jf_neg (by omega)] | rw [jf_pos (by omega)] | rw [ou_neg (by omega)] | rw [ou_pos (by omega)])); exact hN.2.1
      · rw [nv _ _ (by omega) (by omega)]; (repeat (first | rw [jf_neg (by omega)] | rw [jf_pos (by omega)] | rw [ou_neg (by omega)] | rw [ou_pos (by omega)])); exact hN.2.2
      · unfold oStart at *
        rw [ou_pos ⟨rfl, rfl, rfl⟩] at j1
        by_cases e : j = o 2 0 0
        · (repeat (first | rw [jf_neg (by omega)] | rw [jf_pos (by omega)] | rw [ou_neg (by omega)] | rw [ou_pos (by omega)]))
        · (repeat (first | rw [jf_neg (by omega)] | rw [jf_pos (by omega)] | rw [ou_neg (by omega)] | rw [ou_pos (by omega)])); exact hT j j0 (by omega)
      · exact (hY.keep v.2.2.1 fun c a k a0 a1 => by (repeat (first | rw [jf_neg (by omega)] | rw [jf_pos (by omega)] | rw [ou_neg (by omega)] | rw [ou_pos (by omega)]))).val (by rw [nv _ _ (by omega) (by omega)]) (fun y => by rw [nv _ _ (by omega) (by omega)])
      · exact (hR.keep v.2.2.1 fun c a k a0 a1 => by (repeat (first | rw [jf_neg (by omega)] | rw [jf_pos (by omega)] | rw [ou_neg (by omega)] | rw [ou_pos (by omega)]))).val (by rw [nv _ _ (by omega) (by omega)]) (fun y => by rw [nv _ _ (by omega) (by omega)])
    by_cases c4 : 0 < o 2 0 0
    · have c5 := hT (o 2 0 0 - 1) (by omega) (by omega)
      by_cases c6 : o 3 (o 2 0 0 - 1) 0 < x
      · (repeat (first | with_reducible refine jS_pos (by omega) ?_ | with_reducible refine jS_neg (by omega) ?_ | with_reducible refine jS_posB (by omega) ?_ | with_reducible refine jS_negB (by omega) ?_ | with_reducible refine jS_some ?_ | with_reducible refine jS_ls ?_ | with_reducible refine jS_let ?_ | with_reducible refine jS_lt (by omega) (by omega) ?_ | with_reducible refine jS_st (by omega) (by omega) ?_ | with_reducible refine jS_ix (by omega) (by omega) ?_ | with_reducible refine jS_dv (by omega) ?_ | with_reducible refine jS_zb (by omega) ?_ | with_reducible refine jS_bb ?_ | with_reducible refine jS_inr ?_ | with_reducible refine jS_lsB ?_ | with_reducible refine jS_letB ?_ | with_reducible refine jS_ck0 (by omega) ?_ | with_reducible refine jS_ck0B (by omega) ?_ | rw [W32_in (by omega) (by omega)] | rw [W32_aL] | rw [W32_aR] | rw [W32_sL] | rw [W32_mR] | rw [jf_neg (by omega)] | rw [jf_pos (by omega)] | with_reducible refine jS_bb ?_))
        rw [n1]; (repeat (first | with_reducible refine jS_pos (by omega) ?_ | with_reducible refine jS_neg (by omega) ?_ | with_reducible refine jS_posB (by omega) ?_ | with_reducible refine jS_negB (by omega) ?_ | with_reducible refine jS_some ?_ | with_reducible refine jS_ls ?_ | with_reducible refine jS_let ?_ | with_reducible refine jS_lt (by omega) (by omega) ?_ | with_reducible refine jS_st (by omega) (by omega) ?_ | with_reducible refine jS_ix (by omega) (by omega) ?_ | with_reducible refine jS_dv (by omega) ?_ | with_reducible refine jS_zb (by omega) ?_ | with_reducible refine jS_bb ?_ | with_reducible refine jS_inr ?_ | with_reducible refine jS_lsB ?_ | with_reducible refine jS_letB ?_ | with_reducible refine jS_ck0 (by omega) ?_ | with_reducible refine jS_ck0B (by omega) ?_ | rw [W32_in (by omega) (by omega)] | rw [W32_aL] | rw [W32_aR] | rw [W32_sL] | rw [W32_mR] | rw [jf_neg (by omega)] | rw [jf_pos (by omega)] | with_reducible refine jS_bb ?_))
        exact jS_end (yes ⟨c1, by omega, by omega, c3, fun _ => c6⟩)
      · (repeat (first | with_reducible refine jS_pos (by omega) ?_ | with_reducible refine jS_neg (by omega) ?_ | with_reducible refine jS_posB (by omega) ?_ | with_reducible refine jS_negB (by omega) ?_ | with_reducible refine jS_some ?_ | with_reducible refine jS_ls ?_ | with_reducible refine jS_let ?_ | with_reducible refine jS_lt (by omega) (by omega) ?_ | with_reducible refine jS_st (by omega) (by omega) ?_ | with_reducible refine jS_ix (by omega) (by omega) ?_ | with_reducible refine jS_dv (by omega) ?_ | with_reducible refine jS_zb (by omega) ?_ | with_reducible refine jS_bb ?_ | with_reducible refine jS_inr ?_ | with_reducible refine jS_lsB ?_ | with_reducible refine jS_letB ?_ | with_reducible refine jS_ck0 (by omega) ?_ | with_reducible refine jS_ck0B (by omega) ?_ | rw [W32_in (by omega) (by omega)] | rw [W32_aL] | rw [W32_aR] | rw [W32_sL] | rw [W32_mR] | rw [jf_neg (by omega)] | rw [jf_pos (by omega)] | with_reducible refine jS_bb ?_))
        exact jS_end (no fun z => c6 (z.2.2.2.2 c4))
    · (repeat (first | with_reducible refine jS_pos (by omega) ?_ | with_reducible refine jS_neg (by omega) ?_ | with_reducible refine jS_posB (by omega) ?_ | with_reducible refine jS_negB (by omega) ?_ | with_reducible refine jS_some ?_ | with_reducible refine jS_ls ?_ | with_reducible refine jS_let ?_ | with_reducible refine jS_lt (by omega) (by omega) ?_ | with_reducible refine jS_st (by omega) (by omega) ?_ | with_reducible refine jS_ix (by omega) (by omega) ?_ | with_reducible refine jS_dv (by omega) ?_ | with_reducible refine jS_zb (by omega) ?_ | with_reducible refine jS_bb ?_ | with_reducible refine jS_inr ?_ | with_reducible refine jS_lsB ?_ | with_reducible refine jS_letB ?_ | with_reducible refine jS_ck0 (by omega) ?_ | with_reducible refine jS_ck0B (by omega) ?_ | rw [W32_in (by omega) (by omega)] | rw [W32_aL] | rw [W32_aR] | rw [W32_sL] | rw [W32_mR] | rw [jf_neg (by omega)] | rw [jf_pos (by omega)] | with_reducible refine jS_bb ?_))
      rw [n1]; (repeat (first | with_reducible refine jS_pos (by omega) ?_ | with_reducible refine jS_neg (by omega) ?_ | with_reducible refine jS_posB (by omega) ?_ | with_reducible refine jS_negB (by omega) ?_ | with_reducible refine jS_some ?_ | with_reducible refine jS_ls ?_ | with_reducible refine jS_let ?_ | with_reducible refine jS_lt (by omega) (by omega) ?_ | with_reducible refine jS_st (by omega) (by omega) ?_ | with_reducible refine jS_ix (by omega) (by omega) ?_ | with_reducible refine jS_dv (by omega) ?_ | with_reducible refine jS_zb (by omega) ?_ | with_reducible refine jS_bb ?_ | with_reducible refine jS_inr ?_ | with_reducible refine jS_lsB ?_ | with_reducible refine jS_letB ?_ | with_reducible refine jS_ck0 (by omega) ?_ | with_reducible refine jS_ck0B (by omega) ?_ | rw [W32_in (by omega) (by omega)] | rw [W32_aL] | rw [W32_aR] | rw [W32_sL] | rw [W32_mR] | rw [jf_neg (by omega)] | rw [jf_pos (by omega)] | with_reducible refine jS_bb ?_))
      exact jS_end (yes ⟨c1, by omega, by omega, c3, fun z => absurd z c4⟩)
  · (repeat (first | with_reducible refine jS_pos (by omega) ?_ | with_reducible refine jS_neg (by omega) ?_ | with_reducible refine jS_posB (by omega) ?_ | with_reducible refine jS_negB (by omega) ?_ | with_reducible refine jS_some ?_ | with_reducible refine jS_ls ?_ | with_reducible refine jS_let ?_ | with_reducible refine jS_lt (by omega) (by omega) ?_ | with_reducible refine jS_st (by omega) (by omega) ?_ | with_reducible refine jS_ix (by omega) (by omega) ?_ | with_reducible refine jS_dv (by omega) ?_ | with_reducible refine jS_zb (by omega) ?_ | with_reducible refine jS_bb ?_ | with_reducible refine jS_inr ?_ | with_reducible refine jS_lsB ?_ | with_reducible refine jS_letB ?_ | with_reducible refine jS_ck0 (by omega) ?_ | with_reducible refine jS_ck0B (by omega) ?_ | rw [W32_in (by omega) (by omega)] | rw [W32_aL] | rw [W32_aR] | rw [W32_sL] | rw [W32_mR] | rw [jf_neg (by omega)] | rw [jf_pos (by omega)] | with_reducible refine jS_bb ?_))
    exact jS_end (no fun z => c3 z.2.2.2.1)
theorem c_mstart (h : cMk s O o d) (hx : jin x) : ∃ o', (stOK o x ∧ o' = oStart o x ∨ ¬ stOK o x ∧ o' = o) ∧ jE (m_X13_start s O x) fun q => jFx s q.1 O 1858 ∧ cMk q.1 O o' d := by
  obtain ⟨hT, hO, hv, hd, hvd⟩ := h
  rw [em_X13_start]; unfold dm_X13_start
  by_cases c : x < 2048
  · rw [if_pos c]
    by_cases g : stOK o x
    · refine ⟨_, .inl ⟨g, rfl⟩, ?_⟩
      refine jS_call (c_start hO hv hx c) fun q ⟨g1, g2⟩ => ?_
      rcases g2 with ⟨-, g3, g4⟩ | ⟨g3, -⟩
      · (repeat (first | with_reducible refine jS_pos (by omega) ?_ | with_reducible refine jS_neg (by omega) ?_ | with_reducible refine jS_posB (by omega) ?_ | with_reducible refine jS_negB (by omega) ?_ | with_reducible refine jS_some ?_ | with_reducible refine jS_ls ?_ | with_reducible refine jS_let ?_ | with_reducible refine jS_lt (by omega) (by omega) ?_ | with_reducible refine jS_st (by omega) (by omega) ?_ | with_reducible refine jS_ix (by omega) (by omega) ?_ | with_reducible refine jS_dv (by omega) ?_ | with_reducible refine jS_zb (by omega) ?_ | with_reducible refine jS_bb ?_ | with_reducible refine jS_inr ?_ | with_reducible refine jS_lsB ?_ | with_reducible refine jS_letB ?_ | with_reducible refine jS_ck0 (by omega) ?_ | with_reducible refine jS_ck0B (by omega) ?_ | rw [W32_in (by omega) (by omega)] | rw [W32_aL] | rw [W32_aR] | rw [W32_sL] | rw [W32_mR] | rw [jf_neg (by omega)] | rw [jf_pos (by omega)] | with_reducible refine jS_bb ?_))
        exact jS_end (cMk.of hT (g1.wide (by omega) (by omega)) g4 (vStart hv g) (hd.keep fun c a k a0 a1 => g1.F (by omega) k) hvd)
      · exact absurd g g3
    · refine ⟨_, .inr ⟨g, rfl⟩, ?_⟩
      refine jS_call (c_start hO hv hx c) fun q ⟨g1, g2⟩ => ?_
      rcases g2 with ⟨g3, -⟩ | ⟨-, g3, g4⟩
      · exact absurd g3 g
      · (repeat (first | with_reducible refine jS_pos (by omega) ?_ | with_reducible refine jS_neg (by omega) ?_ | with_reducible refine jS_posB (by omega) ?_ | with_reducible refine jS_negB (by omega) ?_ | with_reducible refine jS_some ?_ | with_reducible refine jS_ls ?_ | with_reducible refine jS_let ?_ | with_reducible refine jS_lt (by omega) (by omega) ?_ | with_reducible refine jS_st (by omega) (by omega) ?_ | with_reducible refine jS_ix (by omega) (by omega) ?_ | with_reducible refine jS_dv (by omega) ?_ | with_reducible refine jS_zb (by omega) ?_ | with_reducible refine jS_bb ?_ | with_reducible refine jS_inr ?_ | with_reducible refine jS_lsB ?_ | with_reducible refine jS_letB ?_ | with_reducible refine jS_ck0 (by omega) ?_ | with_reducible refine jS_ck0B (by omega) ?_ | rw [W32_in (by omega) (by omega)] | rw [W32_aL] | rw [W32_aR] | rw [W32_sL] | rw [W32_mR] | rw [jf_neg (by omega)] | rw [jf_pos (by omega)] | with_reducible refine jS_bb ?_))
        refine jS_end ?_
        show jFx s q.1 O 1858 ∧ cMk q.1 O o d
        rw [g4]
        exact ⟨jFx.rfl, hT, hO, hv, hd, hvd⟩
  · rw [if_neg c]
    exact ⟨_, .inr ⟨fun z => by have := z.2.2.1; omega, rfl⟩, jS_end ⟨jFx.rfl, hT, hO, hv, hd, hvd⟩⟩
/-- a letter more of a name -/
def dPut (d : Int → Int) (c : Int) : Int → Int := fun k => if k = 5 then d 5 + 1 else if k = 6 + d 5 then c else d k
theorem vPut {c : Int} (v : vNm d) (h1 : d 5 < 16) (h2 : 33 ≤ c) (h3 : c ≤ 126) : vNm (dPut d c) := by
  obtain ⟨v1, v2, v3⟩ := v
  have e5 : dPut d c 5 = d 5 + 1 := rfl
  refine ⟨by rw [e5]; omega, by rw [e5]; omega, fun i i0 i1 => ?_⟩
  rw [e5] at i1
  unfold dPut
  rw [if_neg (by omega)]
  by_cases e : i = d 5
  · rw [if_pos (by omega)]; exact ⟨h2, h3⟩
  · rw [if_neg (by omega)]; exact v3 i i0 (by omega)
theorem c_nadd {c : Int} (h : cNm s y d) (v : vNm d) : ∃ d', (d 5 < 16 ∧ 33 ≤ c ∧ c ≤ 126 ∧ d' = dPut d c ∨ ¬ (d 5 < 16 ∧ 33 ≤ c ∧ c ≤ 126) ∧ d' = d) ∧ jE (m_X17_add s y c) fun q => jFx s q.1 y 2 ∧ cNm q.1 y d' ∧ vNm d' ∧ (d' = dPut d c ∧ d 5 < 16 ∧ 33 ≤ c ∧ c ≤ 126 ∧ q.2 = 1 ∨ d' = d ∧ ¬ (d 5 < 16 ∧ 33 ≤ c ∧ c ≤ 126) ∧ q.2 = 0) := by
  obtain ⟨h1, h2⟩ := h
  have hv := v
  obtain ⟨v1, v2, v3⟩ := v
  rw [em_X17_add]; unfold dm_X17_add
  by_cases c1 : d 5 = 16
  · refine ⟨_, .inr ⟨by omega, rfl⟩, ?_⟩
    (repeat (first | with_reducible refine jS_pos (by omega) ?_ | with_reducible refine jS_neg (by omega) ?_ | with_reducible refine jS_posB (by omega) ?_ | with_reducible refine jS_negB (by omega) ?_ | with_reducible refine jS_some ?_ | with_reducible refine jS_ls ?_ | with_reducible refine jS_let ?_ | with_reducible refine jS_lt (by omega) (by omega) ?_ | with_reducible refine jS_st (by omega) (by omega) ?_ | with_reducible refine jS_ix (by omega) (by omega) ?_ | with_reducible refine jS_dv (by omega) ?_ | with_reducible refine jS_zb (by omega) ?_ | with_reducible refine jS_bb ?_ | with_reducible refine jS_inr ?_ | with_reducible refine jS_lsB ?_ | with_reducible refine jS_letB ?_ | with_reducible refine jS_ck0 (by omega) ?_ | with_reducible refine jS_ck0B (by omega) ?_ | rw [W32_in (by omega) (by omega)] | rw [W32_aL] | rw [W32_aR] | rw [W32_sL] | rw [W32_mR] | rw [jf_neg (by omega)] | rw [jf_pos (by omega)] | with_reducible refine jS_bb ?_))
    exact jS_end ⟨jFx.rfl, ⟨h1, h2⟩, hv, .inr ⟨rfl, by omega, Wz_0⟩⟩
  · rw [if_neg (by omega)]
    by_cases c2 : 33 ≤ c ∧ c ≤ 126
    · refine ⟨_, .inl ⟨by omega, c2.1, c2.2, rfl⟩, ?_⟩
      refine jS_e (in_1 (by omega) (by omega)) ?_
      (repeat (first | with_reducible refine jS_pos (by omega) ?_ | with_reducible refine jS_neg (by omega) ?_ | with_reducible refine jS_posB (by omega) ?_ | with_reducible refine jS_negB (by omega) ?_ | with_reducible refine jS_some ?_ | with_reducible refine jS_ls ?_ | with_reducible refine jS_let ?_ | with_reducible refine jS_lt (by omega) (by omega) ?_ | with_reducible refine jS_st (by omega) (by omega) ?_ | with_reducible refine jS_ix (by omega) (by omega) ?_ | with_reducible refine jS_dv (by omega) ?_ | with_reducible refine jS_zb (by omega) ?_ | with_reducible refine jS_bb ?_ | with_reducible refine jS_inr ?_ | with_reducible refine jS_lsB ?_ | with_reducible refine jS_letB ?_ | with_reducible refine jS_ck0 (by omega) ?_ | with_reducible refine jS_ck0B (by omega) ?_ | rw [W32_in (by omega) (by omega)] | rw [W32_aL] | rw [W32_aR] | rw [W32_sL] | rw [W32_mR] | rw [jf_neg (by omega)] | rw [jf_pos (by omega)] | with_reducible refine jS_bb ?_))
      rw [h1]
      (repeat (first | with_reducible refine jS_pos (by omega) ?_ | with_reducible refine jS_neg (by omega) ?_ | with_reducible refine jS_posB (by omega) ?_ | with_reducible refine jS_negB (by omega) ?_ | with_reducible refine jS_some ?_ | with_reducible refine jS_ls ?_ | with_reducible refine jS_let ?_ | with_reducible refine jS_lt (by omega) (by omega) ?_ | with_reducible refine jS_st (by omega) (by omega) ?_ | with_reducible refine jS_ix (by omega) (by omega) ?_ | with_reducible refine jS_dv (by omega) ?_ | with_reducible refine jS_zb (by omega) ?_ | with_reducible refine jS_bb ?_ | with_reducible refine jS_inr ?_ | with_reducible refine jS_lsB ?_ | with_reducible refine jS_letB ?_ | with_reducible refine jS_ck0 (by omega) ?_ | with_reducible refine jS_ck0B (by omega) ?_ | rw [W32_in (by omega) (by omega)] | rw [W32_aL] | rw [W32_aR] | rw [W32_sL] | rw [W32_mR] | rw [jf_neg (by omega)] | rw [jf_pos (by omega)] | with_reducible refine jS_bb ?_))
      have e8 : W8 (W8 c) = c := by rw [W8_W8]; unfold sb; rw [if_pos (by omega)]; omega
      rw [e8]
      have e5 : dPut d c 5 = d 5 + 1 := rfl
      refine jS_end ⟨(jFx.rfl.jp (jSs_a (by omega) rfl _) (by omega) (by omega)).jp rfl (by omega) (by omega), ⟨by (repeat (first | rw [jf_neg (by omega)] | rw [jf_pos (by omega)] | rw [ou_neg (by omega)] | rw [ou_pos (by omega)])); rw [e5], fun i i0 i1 => ?_⟩, vPut hv (by omega) c2.1 c2.2, .inl ⟨rfl, by omega, c2.1, c2.2, Wz_1⟩⟩
      rw [e5] at i1
      unfold dPut
      rw [if_neg (by omega)]
      by_cases e : i = d 5
      · rw [if_pos (by omega)]; (repeat (first | rw [jf_neg (by omega)] | rw [jf_pos (by omega)] | rw [ou_neg (by omega)] | rw [ou_pos (by omega)]))
      · rw [if_neg (by omega)]; (repeat (first | rw [jf_neg (by omega)] | rw [jf_pos (by omega)] | rw [ou_neg (by omega)] | rw [ou_pos (by omega)])); exact h2 i i0 (by omega)
    · refine ⟨_, .inr ⟨by omega, rfl⟩, ?_⟩
      refine jS_e (in_0 (by omega)) ?_
      (repeat (first | with_reducible refine jS_pos (by omega) ?_ | with_reducible refine jS_neg (by omega) ?_ | with_reducible refine jS_posB (by omega) ?_ | with_reducible refine jS_negB (by omega) ?_ | with_reducible refine jS_some ?_ | with_reducible refine jS_ls ?_ | with_reducible refine jS_let ?_ | with_reducible refine jS_lt (by omega) (by omega) ?_ | with_reducible refine jS_st (by omega) (by omega) ?_ | with_reducible refine jS_ix (by omega) (by omega) ?_ | with_reducible refine jS_dv (by omega) ?_ | with_reducible refine jS_zb (by omega) ?_ | with_reducible refine jS_bb ?_ | with_reducible refine jS_inr ?_ | with_reducible refine jS_lsB ?_ | with_reducible refine jS_letB ?_ | with_reducible refine jS_ck0 (by omega) ?_ | with_reducible refine jS_ck0B (by omega) ?_ | rw [W32_in (by omega) (by omega)] | rw [W32_aL] | rw [W32_aR] | rw [W32_sL] | rw [W32_mR] | rw [jf_neg (by omega)] | rw [jf_pos (by omega)] | with_reducible refine jS_bb ?_))
      exact jS_end ⟨jFx.rfl, ⟨h1, h2⟩, hv, .inr ⟨rfl, by omega, Wz_0⟩⟩
theorem c_mletter {c : Int} (h : cMk s O o d) : ∃ d', (d 5 < 16 ∧ 33 ≤ c ∧ c ≤ 126 ∧ d' = dPut d c ∨ ¬ (d 5 < 16 ∧ 33 ≤ c ∧ c ≤ 126) ∧ d' = d) ∧ jE (m_X13_letter s O c) fun q => jFx s q.1 O 1858 ∧ cMk q.1 O o d' := by
  obtain ⟨hT, hO, hv, hd, hvd⟩ := h
  obtain ⟨d', e, h⟩ := c_nadd (c := c) hd hvd
  refine ⟨d', e, ?_⟩
  rw [em_X13_letter]; unfold dm_X13_letter
  refine jS_call h fun q ⟨g1, g2, g3, g4⟩ => jS_end ?_
  exact cMk.of hT (g1.wide (by omega) (by omega)) (hO.kf g1 (by omega) hv.2.2.1) hv g2 g3
end jMade2
