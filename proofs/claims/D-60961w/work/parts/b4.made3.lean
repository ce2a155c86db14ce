/-! the component's object that is made: symbol, relocation -/
section jMade3
variable {s t u : jS} {b O X y z lo n x : Int} {o : Int → Int → Int → Int} {w w' d : Int → Int}
theorem and_pow : ∀ k : Fin 64, decide ((k.val + 1) &&& k.val = 0) = decide (k.val + 1 = 1 ∨ k.val + 1 = 2 ∨ k.val + 1 = 4 ∨ k.val + 1 = 8 ∨ k.val + 1 = 16 ∨ k.val + 1 = 32 ∨ k.val + 1 = 64) := by decide
theorem L_and_nat {x y : Nat} (hx : x < 9223372036854775808) (hy : y < 9223372036854775808) : L_and x y = (x &&& y : Nat) := by
  rw [L_and_eq, l_and_bv, BitVec.ofInt_natCast, BitVec.ofInt_natCast, ← BitVec.ofNat_and]
  have hl : x &&& y ≤ x := Nat.and_le_left
  rw [BitVec.toInt_eq_toNat_of_lt, BitVec.toNat_ofNat, Nat.mod_eq_of_lt (by omega)]
  rw [BitVec.toNat_ofNat, Nat.mod_eq_of_lt (by omega)]
  omega
theorem pw_al {v : Int} : (0 < v ∧ ¬ 64 < v ∧ L_and v (W64 (v - 1)) = 0) ↔ pPw v := by
  by_cases c : 0 < v ∧ v ≤ 64
  · have e : v = ((v.toNat - 1 + 1 : Nat) : Int) := by omega
    have h := and_pow ⟨v.toNat - 1, by omega⟩
    rw [W64_in (by omega) (by omega)]
    have e1 : L_and v (v - 1) = (((v.toNat - 1 + 1) &&& (v.toNat - 1) : Nat) : Int) := by
      rw [← L_and_nat (by omega) (by omega)]
      congr 1 <;> omega
    rw [e1]
    have h' := decide_eq_decide.mp h
    simp only [] at h'
    unfold pPw
    constructor
    · intro ⟨_, _, q⟩
      have := h'.mp (by omega)
      omega
    · intro q
      exact ⟨by omega, by omega, by have := h'.mpr (by omega); omega⟩
  · unfold pPw; constructor <;> intro q <;> omega
theorem wr_ok (y : Int) : v_X16_wrong s y = 0 ↔ (if jf s 20 y 1 = -1 then jf s 20 y 2 = 0 ∧ jf s 20 y 3 = 0 ∧ jf s 20 y 4 ≠ 0 else if jf s 20 y 1 = 4 then 0 ≤ jf s 20 y 3 else if jf s 20 y 1 = 5 then pPw (jf s 20 y 2) ∧ 1 ≤ jf s 20 y 3 ∧ jf s 20 y 3 ≤ 4096 ∧ jf s 20 y 4 = 1 else 0 ≤ jf s 20 y 2 ∧ 0 ≤ jf s 20 y 3) := by
  unfold v_X16_wrong
  generalize jf s 20 y 1 = a
  generalize jf s 20 y 2 = v
  generalize jf s 20 y 3 = z
  generalize jf s 20 y 4 = q
  have hp := pw_al (v := v)
  by_cases c1 : a = -1
  · rw [if_pos c1, if_pos c1]
    by_cases c2 : v = 0
    · rw [if_pos c2]
      by_cases c3 : z = 0
      · rw [if_pos c3]
        by_cases c4 : q = 0
        · rw [if_pos c4]; omega
        · rw [if_neg c4]; omega
      · rw [if_neg c3]; omega
    · rw [if_neg c2]; omega
  · rw [if_neg c1, if_neg c1]
    by_cases c2 : a = 4
    · rw [if_pos c2, if_pos c2]
      by_cases c3 : z < 0
      · rw [if_pos c3]; omega
      · rw [if_neg c3]; omega
    · rw [if_neg c2, if_neg c2]
      by_cases c3 : a = 5
      · rw [if_pos c3, if_pos c3]
        by_cases c4 : pPw v
        · rw [if_pos (hp.mpr c4)]
          by_cases c5 : ¬ z < 1 ∧ ¬ 4096 < z
          · rw [if_pos c5]
            by_cases c6 : q = 1
            · rw [if_pos c6]; exact ⟨fun _ => ⟨c4, by omega, by omega, c6⟩, fun _ => rfl⟩
            · rw [if_neg c6]; exact ⟨fun e => by omega, fun e => absurd e.2.2.2 c6⟩
          · rw [if_neg c5]; exact ⟨fun e => by omega, fun e => by omega⟩
        · rw [if_neg fun e => c4 (hp.mp e)]; exact ⟨fun e => by omega, fun e => absurd e.1 c4⟩
      · rw [if_neg c3, if_neg c3]
        by_cases c4 : v < 0
        · rw [if_pos c4]; omega
        · rw [if_neg c4]
          by_cases c5 : z < 0
          · rw [if_pos c5]; omega
          · rw [if_neg c5]; omega
/-- a symbol's numbers as a row, with a name -/
def wSy (d : Int → Int) (a v z how ty : Int) : Int → Int := fun k => if k = 0 then a else if k = 1 then v else if k = 2 then z else if k = 3 then how else if k = 4 then ty else d k
def syOK (o : Int → Int → Int → Int) (d : Int → Int) (a v z how ty : Int) : Prop := o 2 1 0 < 100 ∧ 0 < d 5 ∧ -1 ≤ a ∧ a ≤ 5 ∧ 0 ≤ how ∧ how ≤ 2 ∧ 0 ≤ ty ∧ ty ≤ 2 ∧ (how = 0 ∨ ¬ isTk o d (o 2 1 0)) ∧ wOK (wSy d a v z how ty)
def oSym (o : Int → Int → Int → Int) (w : Int → Int) : Int → Int → Int → Int := fun c a k => if c = 4 ∧ a = o 2 1 0 then w k else if c = 2 ∧ a = 1 ∧ k = 0 then o 2 1 0 + 1 else o c a k
theorem oSym_4 : oSym o w 4 (o 2 1 0) = w := by funext k; unfold oSym; rw [if_pos ⟨rfl, rfl⟩]
theorem oSym_n : oSym o w 2 1 0 = o 2 1 0 + 1 := by unfold oSym; rw [if_neg (by omega), if_pos ⟨rfl, rfl, rfl⟩]
theorem oSym_o {c a : Int} (h : ¬ (c = 4 ∧ a = o 2 1 0)) (h' : ¬ (c = 2 ∧ a = 1)) : oSym o w c a = o c a := by funext k; unfold oSym; rw [if_neg h, if_neg (fun q => h' ⟨q.1, q.2.1⟩)]
theorem vSym (v : vOb o) (h : o 2 1 0 < 100) (hw : vSy w) : vOb (oSym o w) := by
  obtain ⟨v1, v2, v3, v4, v5, v6⟩ := v
  obtain ⟨n1, n2, n3, n4, n5, n6⟩ := v3
  refine ⟨fun y y0 y1 => by rw [oSym_o (by omega) (by omega)]; exact v1 y y0 y1, v2.val (fun y => by rw [oSym_o (by omega) (by omega)]) (fun y k => by rw [oSym_o (by omega) (by omega)]), ?_, v4.val (by rw [oSym_o (by omega) (by omega)]) (fun k => by rw [oSym_o (by omega) (by omega)]), fun k k0 k1 => ?_, fun k k0 k1 => ?_⟩
  · unfold vObN
    rw [oSym_n, oSym_o (by omega) (by omega), oSym_o (by omega) (by omega)]
    omega
  · rw [oSym_n] at k1
    by_cases e : k = o 2 1 0
    · subst e; rw [oSym_4]; exact hw
    · rw [oSym_o (by omega) (by omega)]; exact v5 k k0 (by omega)
  · rw [oSym_o (by omega) (by omega)] at k1
    rw [oSym_n, oSym_o (by omega) (by omega)]
    obtain ⟨a1, a2, a3, a4, a5, a6, a7, a8⟩ := v6 k k0 k1
    exact ⟨a1, a2, a3, a4, a5, a6, by omega, a8⟩
theorem c_nset (h : cNm s z d) (v : vNm d) (tz : jTt s 37 z) (hd : z + 2 ≤ y ∨ y + 2 ≤ z) : jE (m_X17_set s y z) fun q => jFx s q.1 y 2 ∧ cNm q.1 y d := by
  obtain ⟨z0, zk, z1, z2, z3, z4⟩ := T37 tz
  obtain ⟨h1, h2⟩ := h
  obtain ⟨v1, v2, v3⟩ := v
  rw [em_X17_set]; unfold dm_X17_set
  refine jS_rd z0 zk ?_
  rw [h1]
  (repeat (first | with_reducible refine jS_pos (by omega) ?_ | with_reducible refine jS_neg (by omega) ?_ | with_reducible refine jS_posB (by omega) ?_ | with_reducible refine jS_negB (by omega) ?_ | with_reducible refine jS_some ?_ | with_reducible refine jS_ls ?_ | with_reducible refine jS_let ?_ | with_reducible refine jS_lt (by omega) (by omega) ?_ | with_reducible refine jS_st (by omega) (by omega) ?_ | with_reducible refine jS_ix (by omega) (by omega) ?_ | with_reducible refine jS_dv (by omega) ?_ | with_reducible refine jS_zb (by omega) ?_ | with_reducible refine jS_bb ?_ | with_reducible refine jS_inr ?_ | with_reducible refine jS_lsB ?_ | with_reducible refine jS_letB ?_ | with_reducible refine jS_ck0 (by omega) ?_ | with_reducible refine jS_ck0B (by omega) ?_ | rw [W32_in (by omega) (by omega)] | rw [W32_aL] | rw [W32_aR] | rw [W32_sL] | rw [W32_mR] | rw [jf_neg (by omega)] | rw [jf_pos (by omega)] | with_reducible refine jS_bb ?_))
  rw [eu_X17_set_10]; unfold du_X17_set_10
  refine jS_for (fun k u => jFx s u y 2 ∧ jf u 21 y 1 = d 5 ∧ ∀ i, 0 ≤ i → i < k → jf u 1001 (y + 1) i = d (6 + i)) (fun k => [y, z, k]) 0 (d 5) v1 ⟨jFx.rfl.jp rfl (by omega) (by omega), by (repeat (first | rw [jf_neg (by omega)] | rw [jf_pos (by omega)] | rw [ou_neg (by omega)] | rw [ou_pos (by omega)])), fun i i0 i1 => by omega⟩ (fun k u k0 k1 ⟨g, e1, e2⟩ => ?_) (fun u ⟨g, e1, e2⟩ => ?_)
  · show jE (b_X17_set_10 u y z k) _
    unfold b_X17_set_10
    rw [e1, if_pos k1]
    refine jS_rd z0 (by rw [g.K]; exact zk) ?_
    rw [g.F (by omega), z1]
    refine jS_ld (by omega) (by rw [g.K]; exact z3) k0 (by rw [g.N, z4]; omega) ?_
    rw [g.F (by omega), h2 k k0 k1]
    have := v3 k k0 k1
    have e8 : W8 (d (6 + k)) = d (6 + k) := by rw [sb_c (by omega) (by omega)]; unfold sb; rw [if_pos (by omega)]
    rw [e8]
    (repeat (first | with_reducible refine jS_pos (by omega) ?_ | with_reducible refine jS_neg (by omega) ?_ | with_reducible refine jS_posB (by omega) ?_ | with_reducible refine jS_negB (by omega) ?_ | with_reducible refine jS_some ?_ | with_reducible refine jS_ls ?_ | with_reducible refine jS_let ?_ | with_reducible refine jS_lt (by omega) (by omega) ?_ | with_reducible refine jS_st (by omega) (by omega) ?_ | with_reducible refine jS_ix (by omega) (by omega) ?_ | with_reducible refine jS_dv (by omega) ?_ | with_reducible refine jS_zb (by omega) ?_ | with_reducible refine jS_bb ?_ | with_reducible refine jS_inr ?_ | with_reducible refine jS_lsB ?_ | with_reducible refine jS_letB ?_ | with_reducible refine jS_ck0 (by omega) ?_ | with_reducible refine jS_ck0B (by omega) ?_ | rw [W32_in (by omega) (by omega)] | rw [W32_aL] | rw [W32_aR] | rw [W32_sL] | rw [W32_mR] | rw [jf_neg (by omega)] | rw [jf_pos (by omega)] | with_reducible refine jS_bb ?_))
    refine jS_end ⟨rfl, g.jp (jSs_a (by omega) rfl _) (by omega) (by omega), by (repeat (first | rw [jf_neg (by omega)] | rw [jf_pos (by omega)] | rw [ou_neg (by omega)] | rw [ou_pos (by omega)])); exact e1, fun i i0 i1 => ?_⟩
    by_cases c : i = k
    · subst c; (repeat (first | rw [jf_neg (by omega)] | rw [jf_pos (by omega)] | rw [ou_neg (by omega)] | rw [ou_pos (by omega)]))
    · (repeat (first | rw [jf_neg (by omega)] | rw [jf_pos (by omega)] | rw [ou_neg (by omega)] | rw [ou_pos (by omega)])); exact e2 i i0 (by omega)
  · show jE (b_X17_set_10 u y z (d 5)) _
    unfold b_X17_set_10
    rw [e1, if_neg (by omega)]
    (repeat (first | with_reducible refine jS_pos (by omega) ?_ | with_reducible refine jS_neg (by omega) ?_ | with_reducible refine jS_posB (by omega) ?_ | with_reducible refine jS_negB (by omega) ?_ | with_reducible refine jS_some ?_ | with_reducible refine jS_ls ?_ | with_reducible refine jS_let ?_ | with_reducible refine jS_lt (by omega) (by omega) ?_ | with_reducible refine jS_st (by omega) (by omega) ?_ | with_reducible refine jS_ix (by omega) (by omega) ?_ | with_reducible refine jS_dv (by omega) ?_ | with_reducible refine jS_zb (by omega) ?_ | with_reducible refine jS_bb ?_ | with_reducible refine jS_inr ?_ | with_reducible refine jS_lsB ?_ | with_reducible refine jS_letB ?_ | with_reducible refine jS_ck0 (by omega) ?_ | with_reducible refine jS_ck0B (by omega) ?_ | rw [W32_in (by omega) (by omega)] | rw [W32_aL] | rw [W32_aR] | rw [W32_sL] | rw [W32_mR] | rw [jf_neg (by omega)] | rw [jf_pos (by omega)] | with_reducible refine jS_bb ?_))
    exact jS_end ⟨g, e1, e2⟩
theorem cNm.row {d' : Int → Int} (h : cNm s y d) (e : ∀ k, 5 ≤ k → d' k = d k) : cNm s y d' := ⟨by rw [e 5 (by omega)]; exact h.1, fun i i0 i1 => by rw [e _ (by omega)]; rw [e 5 (by omega)] at i1; exact h.2 i i0 i1⟩
theorem vNm.row {d' : Int → Int} (h : vNm d) (e : ∀ k, 5 ≤ k → d' k = d k) : vNm d' := ⟨by rw [e 5 (by omega)]; exact h.1, by rw [e 5 (by omega)]; exact h.2.1, fun i i0 i1 => by rw [e _ (by omega)]; rw [e 5 (by omega)] at i1; exact h.2.2 i i0 i1⟩
theorem wSy_d {a v z how ty k : Int} (h : 5 ≤ k) : wSy d a v z how ty k = d k := by unfold wSy; rw [if_neg (by omega), if_neg (by omega), if_neg (by omega), if_neg (by omega), if_neg (by omega)]
theorem c_msymbol (h : cMk s O o d) {a v z how ty : Int} (hv1 : jin v) (hz1 : jin z) : ∃ o', (syOK o d a v z how ty ∧ o' = oSym o (wSy d a v z how ty) ∨ ¬ syOK o d a v z how ty ∧ o' = o) ∧ jE (m_X13_symbol s O a v z how ty) fun q => jFx s q.1 O 1858 ∧ cMk q.1 O o' dNew := by
  obtain ⟨hT, hO, hv, hd, hvd⟩ := h
  obtain ⟨T0, T1, T2, T3, -⟩ := T33 hT
  obtain ⟨n1, n2, n3, n4, n5, n6⟩ := hv.2.2.1
  have hN2 := hO.2.2.2.1.2.1
  have e5 : dNew 5 = 0 := rfl
  -- no: nothing but the draft's size
  have no : ∀ u, jFx s u O 1858 → cOb u (O + 1) o → jE (u_X13_symbol_139 u O (-1) 0) fun q => jFx s q.1 O 1858 ∧ cMk q.1 O o dNew := fun u g hu => by
    rw [eu_X13_symbol_139]; unfold du_X13_symbol_139
    (repeat (first | with_reducible refine jS_pos (by omega) ?_ | with_reducible refine jS_neg (by omega) ?_ | with_reducible refine jS_posB (by omega) ?_ | with_reducible refine jS_negB (by omega) ?_ | with_reducible refine jS_some ?_ | with_reducible refine jS_ls ?_ | with_reducible refine jS_let ?_ | with_reducible refine jS_lt (by omega) (by omega) ?_ | with_reducible refine jS_st (by omega) (by omega) ?_ | with_reducible refine jS_ix (by omega) (by omega) ?_ | with_reducible refine jS_dv (by omega) ?_ | with_reducible refine jS_zb (by omega) ?_ | with_reducible refine jS_bb ?_ | with_reducible refine jS_inr ?_ | with_reducible refine jS_lsB ?_ | with_reducible refine jS_letB ?_ | with_reducible refine jS_ck0 (by omega) ?_ | with_reducible refine jS_ck0B (by omega) ?_ | rw [W32_in (by omega) (by omega)] | rw [W32_aL] | rw [W32_aR] | rw [W32_sL] | rw [W32_mR] | rw [jf_neg (by omega)] | rw [jf_pos (by omega)] | with_reducible refine jS_bb ?_))
    refine jS_end (cMk.of hT (g.jp rfl (by omega) (by omega)) (hu.kf (t := jp u 21 (O + 1227) 1 0) (lo := O + 1227) (n := 1) (jFx.rfl.jp rfl (by omega) (by omega)) (by omega) hv.2.2.1) hv ⟨by (repeat (first | rw [jf_neg (by omega)] | rw [jf_pos (by omega)] | rw [ou_neg (by omega)] | rw [ou_pos (by omega)])); rfl, fun i i0 i1 => by omega⟩ vdNew)
  have no' : ∀ (y : Int), ¬ syOK o d a v z how ty → ∃ o', (syOK o d a v z how ty ∧ o' = oSym o (wSy d a v z how ty) ∨ ¬ syOK o d a v z how ty ∧ o' = o) ∧ jE (u_X13_symbol_107 s O a v z how ty y) fun q => jFx s q.1 O 1858 ∧ cMk q.1 O o' dNew := fun y q => ⟨o, .inr ⟨q, rfl⟩, by
    rw [eu_X13_symbol_107]; unfold du_X13_symbol_107
    rw [eu_X13_symbol_108]; unfold du_X13_symbol_108
    rw [if_pos rfl, eu_X13_symbol_139]; unfold du_X13_symbol_139
    (repeat (first | with_reducible refine jS_pos (by omega) ?_ | with_reducible refine jS_neg (by omega) ?_ | with_reducible refine jS_posB (by omega) ?_ | with_reducible refine jS_negB (by omega) ?_ | with_reducible refine jS_some ?_ | with_reducible refine jS_ls ?_ | with_reducible refine jS_let ?_ | with_reducible refine jS_lt (by omega) (by omega) ?_ | with_reducible refine jS_st (by omega) (by omega) ?_ | with_reducible refine jS_ix (by omega) (by omega) ?_ | with_reducible refine jS_dv (by omega) ?_ | with_reducible refine jS_zb (by omega) ?_ | with_reducible refine jS_bb ?_ | with_reducible refine jS_inr ?_ | with_reducible refine jS_lsB ?_ | with_reducible refine jS_letB ?_ | with_reducible refine jS_ck0 (by omega) ?_ | with_reducible refine jS_ck0B (by omega) ?_ | rw [W32_in (by omega) (by omega)] | rw [W32_aL] | rw [W32_aR] | rw [W32_sL] | rw [W32_mR] | rw [jf_neg (by omega)] | rw [jf_pos (by omega)] | with_reducible refine jS_bb ?_))
    refine jS_end (cMk.of hT (jFx.rfl.jp rfl (by omega) (by omega)) (hO.kf (t := jp s 21 (O + 1227) 1 0) (lo := O + 1227) (n := 1) (jFx.rfl.jp rfl (by omega) (by omega)) (by omega) hv.2.2.1) hv ⟨by (repeat (first | rw [jf_neg (by omega)] | rw [jf_pos (by omega)] | rw [ou_neg (by omega)] | rw [ou_pos (by omega)])); rfl, fun i i0 i1 => by omega⟩ vdNew)⟩
  rw [em_X13_symbol]; unfold dm_X13_symbol
  rw [hN2]
  by_cases c1 : ¬ (o 2 1 0 < 100)
  · rw [if_neg c1, eu_X13_symbol_31]; unfold du_X13_symbol_31
    rw [if_pos (by omega)]
    exact no' _ fun q => c1 q.1
  replace c1 := Decidable.not_not.mp c1
  rw [if_pos c1, jix_in (by omega) (by omega), Option.bind_some, eu_X13_symbol_31]; unfold du_X13_symbol_31
  have hY := ((T34 T1).2.2.2.1.2.2.2.2 (o 2 1 0) (by omega) c1).2
  rw [hN2]
  generalize hy : O + 1 + 3 + 10 + 3 * o 2 1 0 = y at hY ⊢
  obtain ⟨y0, yk, y1, y2⟩ := T36 hY
  rw [if_neg (by omega), hd.1]
  by_cases c2 : ¬ (0 < d 5)
  · rw [if_neg c2]; exact no' _ fun q => c2 q.2.1
  replace c2 := Decidable.not_not.mp c2
  rw [if_pos c2]
  by_cases c3 : ¬ (-1 ≤ a ∧ a ≤ 5)
  · rw [in_0 (by omega), Option.bind_some, if_pos rfl]; exact no' _ fun q => c3 ⟨q.2.2.1, q.2.2.2.1⟩
  replace c3 := Decidable.not_not.mp c3
  rw [in_1 c3.1 c3.2, Option.bind_some, if_neg (by omega)]
  by_cases c4 : ¬ (0 ≤ how ∧ how ≤ 2)
  · rw [in_0 (by omega), Option.bind_some, if_pos rfl]; exact no' _ fun q => c4 ⟨q.2.2.2.2.1, q.2.2.2.2.2.1⟩
  replace c4 := Decidable.not_not.mp c4
  rw [in_1 c4.1 c4.2, Option.bind_some, if_neg (by omega)]
  by_cases c5 : ¬ (0 ≤ ty ∧ ty ≤ 2)
  · rw [in_0 (by omega), Option.bind_some, if_pos rfl]; exact no' _ fun q => c5 ⟨q.2.2.2.2.2.2.1, q.2.2.2.2.2.2.2.1⟩
  replace c5 := Decidable.not_not.mp c5
  rw [in_1 c5.1 c5.2, Option.bind_some, if_neg (by omega)]
  -- good so far: the row is written
  have good : (how = 0 ∨ ¬ isTk o d (o 2 1 0)) → ∃ o', (syOK o d a v z how ty ∧ o' = oSym o (wSy d a v z how ty) ∨ ¬ syOK o d a v z how ty ∧ o' = o) ∧ jE (u_X13_symbol_103 s O a v z how ty y) fun q => jFx s q.1 O 1858 ∧ cMk q.1 O o' dNew := by
    intro htk
    rw [eu_X13_symbol_103]; unfold du_X13_symbol_103
    rw [eu_X13_symbol_108]; unfold du_X13_symbol_108
    rw [if_neg (by omega), em_X16_set]; unfold dm_X16_set
    rw [jct_in hY]
    simp only [jls, Option.bind_some]
    have g1 : jFx s (jp (jp (jp (jp (jp s 20 y 1 a) 20 y 2 v) 20 y 3 z) 20 y 4 how) 20 y 5 ty) y 1 := ((((jFx.rfl.jp rfl (by omega) (by omega)).jp rfl (by omega) (by omega)).jp rfl (by omega) (by omega)).jp rfl (by omega) (by omega)).jp rfl (by omega) (by omega)
    have f1 : jf (jp (jp (jp (jp (jp s 20 y 1 a) 20 y 2 v) 20 y 3 z) 20 y 4 how) 20 y 5 ty) 20 y 1 = a := by (repeat (first | rw [jf_neg (by omega)] | rw [jf_pos (by omega)] | rw [ou_neg (by omega)] | rw [ou_pos (by omega)]))
    have f2 : jf (jp (jp (jp (jp (jp s 20 y 1 a) 20 y 2 v) 20 y 3 z) 20 y 4 how) 20 y 5 ty) 20 y 2 = v := by (repeat (first | rw [jf_neg (by omega)] | rw [jf_pos (by omega)] | rw [ou_neg (by omega)] | rw [ou_pos (by omega)]))
    have f3 : jf (jp (jp (jp (jp (jp s 20 y 1 a) 20 y 2 v) 20 y 3 z) 20 y 4 how) 20 y 5 ty) 20 y 3 = z := by (repeat (first | rw [jf_neg (by omega)] | rw [jf_pos (by omega)] | rw [ou_neg (by omega)] | rw [ou_pos (by omega)]))
    have f4 : jf (jp (jp (jp (jp (jp s 20 y 1 a) 20 y 2 v) 20 y 3 z) 20 y 4 how) 20 y 5 ty) 20 y 4 = how := by (repeat (first | rw [jf_neg (by omega)] | rw [jf_pos (by omega)] | rw [ou_neg (by omega)] | rw [ou_pos (by omega)]))
    have f5 : jf (jp (jp (jp (jp (jp s 20 y 1 a) 20 y 2 v) 20 y 3 z) 20 y 4 how) 20 y 5 ty) 20 y 5 = ty := by (repeat (first | rw [jf_neg (by omega)] | rw [jf_pos (by omega)] | rw [ou_neg (by omega)] | rw [ou_pos (by omega)]))
    have f0 : jf (jp (jp (jp (jp (jp s 20 y 1 a) 20 y 2 v) 20 y 3 z) 20 y 4 how) 20 y 5 ty) 20 y 0 = y + 1 := by (repeat (first | rw [jf_neg (by omega)] | rw [jf_pos (by omega)] | rw [ou_neg (by omega)] | rw [ou_pos (by omega)])); exact y1
    generalize jp (jp (jp (jp (jp s 20 y 1 a) 20 y 2 v) 20 y 3 z) 20 y 4 how) 20 y 5 ty = s1 at g1 f0 f1 f2 f3 f4 f5 ⊢
    rw [jrd_in y0 (by rw [g1.K]; exact yk), Option.bind_some, f0, jct_in (y2.ext g1.2)]
    obtain ⟨q, e, g2, f6⟩ := c_nset (y := y + 1) (hd.keep (t := s1) fun c a k a0 a1 => g1.F (by omega) k) hvd (T3.ext g1.2) (by omega)
    rw [e, Option.bind_some, eu_X13_symbol_139]; unfold du_X13_symbol_139
    have G : jFx s (jp q.1 21 (O + 1227) 1 0) O 1858 := ((g1.wide (by omega) (by omega)).trans (g2.wide (by omega) (by omega))).jp rfl (by omega) (by omega)
    have k0 : ∀ k, jf (jp q.1 21 (O + 1227) 1 0) 20 y k = jf s1 20 y k := fun k => by (repeat (first | rw [jf_neg (by omega)] | rw [jf_pos (by omega)] | rw [ou_neg (by omega)] | rw [ou_pos (by omega)])); exact g2.F (by omega) k
    have hNm : cNm (jp q.1 21 (O + 1227) 1 0) (y + 1) d := f6.keep fun c a k a0 a1 => by (repeat (first | rw [jf_neg (by omega)] | rw [jf_pos (by omega)] | rw [ou_neg (by omega)] | rw [ou_pos (by omega)]))
    have hOu : ∀ c a k, O + 1 ≤ a → a < O + 614 → ¬ (y ≤ a ∧ a < y + 3) → jf (jp q.1 21 (O + 1227) 1 0) c a k = jf s c a k := fun c a k a0 a1 a2 => by (repeat (first | rw [jf_neg (by omega)] | rw [jf_pos (by omega)] | rw [ou_neg (by omega)] | rw [ou_pos (by omega)])); rw [g2.F (by omega), g1.F (by omega)]
    have hD : cNm (jp q.1 21 (O + 1227) 1 0) (O + 1227) dNew := ⟨by (repeat (first | rw [jf_neg (by omega)] | rw [jf_pos (by omega)] | rw [ou_neg (by omega)] | rw [ou_pos (by omega)])); rfl, fun i i0 i1 => by omega⟩
    simp only [jls]
    generalize jp q.1 21 (O + 1227) 1 0 = s2 at G k0 hNm hOu hD ⊢
    have hO2 : cOb s2 (O + 1) o := by
      obtain ⟨hL, hA, hB, hN, hS, hYY, hR⟩ := hO
      refine ⟨fun x x0 x1 => by rw [G.N]; exact hL x x0 x1, hA.keep fun x k x0 x1 => hOu _ _ _ (by omega) (by omega) (by omega), hB.keep fun x k x0 x1 => hOu _ _ _ (by omega) (by omega) (by omega), hN.keep fun k => hOu _ _ _ (by omega) (by omega) (by omega), hS.keep fun k => hOu _ _ _ (by omega) (by omega) (by omega), fun k k0 k1 => (hYY k k0 k1).keep fun c a j a0 a1 => hOu _ _ _ (by omega) (by omega) (by omega), hR.keep hv.2.2.1 fun c a k a0 a1 => hOu _ _ _ (by omega) (by omega) (by omega)⟩
    rw [if_neg (show ¬ (1 : Int) = 0 by omega), e_X16_wrong, jct_in (hY.ext G.2), Option.bind_some]
    have hw := wr_ok (s := s2) y
    rw [k0, k0, k0, k0, f1, f2, f3, f4] at hw
    have hw' : v_X16_wrong s2 y = 0 ↔ wOK (wSy d a v z how ty) := hw
    have hw0 : 0 ≤ v_X16_wrong s2 y := by unfold v_X16_wrong; repeat' split
                                          all_goals omega
    have hsy : ∀ r, (∀ c' a' k, ¬ (c' = 18 ∧ a' = O + 1) → jf r c' a' k = jf s2 c' a' k) → cSy r y (wSy d a v z how ty) := fun r e => by
      refine ⟨?_, ?_, ?_, ?_, ?_, (hNm.keep fun c' a' k a0 a1 => e _ _ _ (by omega)).row fun k hk => wSy_d hk⟩
      · rw [e _ _ _ (by omega), k0, f1]; rfl
      · rw [e _ _ _ (by omega), k0, f2]; rfl
      · rw [e _ _ _ (by omega), k0, f3]; rfl
      · rw [e _ _ _ (by omega), k0, f4]; rfl
      · rw [e _ _ _ (by omega), k0, f5]; rfl
    by_cases c6 : v_X16_wrong s2 y = 0
    · have ok : syOK o d a v z how ty := ⟨c1, c2, c3.1, c3.2, c4.1, c4.2, c5.1, c5.2, htk, hw'.mp c6⟩
      refine ⟨_, .inl ⟨ok, rfl⟩, ?_⟩
      rw [if_neg (by omega), hO2.2.2.2.1.2.1, W32_in (by omega) (by omega)]
      have hvs : vSy (wSy d a v z how ty) := ⟨c3.1, c3.2, hv1, hz1, c4.1, c4.2, c5.1, c5.2, by rw [wSy_d (by omega)]; omega, hvd.row fun k hk => wSy_d hk, ok.2.2.2.2.2.2.2.2.2⟩
      obtain ⟨hL, hA, hB, hN, hS, hYY, hR⟩ := hO2
      refine jS_end (cMk.of hT (G.jp rfl (by omega) (by omega)) ⟨hL, (hA.keep fun x k x0 x1 => by (repeat (first | rw [jf_neg (by omega)] | rw [jf_pos (by omega)] | rw [ou_neg (by omega)] | rw [ou_pos (by omega)]))).val fun x k => by rw [oSym_o (by omega) (by omega)], (hB.keep fun x k x0 x1 => by (repeat (first | rw [jf_neg (by omega)] | rw [jf_pos (by omega)] | rw [ou_neg (by omega)] | rw [ou_pos (by omega)]))).val (fun x k => by rw [oSym_o (by omega) (by omega)]) (fun x k => by rw [oSym_o (by omega) (by omega)]), ⟨by rw [oSym_o (by omega) (by omega)]; (repeat (first | rw [jf_neg (by omega)] | rw [jf_pos (by omega)] | rw [ou_neg (by omega)] | rw [ou_pos (by omega)])); exact hN.1, by rw [oSym_n]; (repeat (first | rw [jf_neg (by omega)] | rw [jf_pos (by omega)] | rw [ou_neg (by omega)] | rw [ou_pos (by omega)])), by rw [oSym_o (by omega) (by omega)]; (repeat (first | rw [jf_neg (by omega)] | rw [jf_pos (by omega)] | rw [ou_neg (by omega)] | rw [ou_pos (by omega)])); exact hN.2.2⟩, (hS.keep fun k => by (repeat (first | rw [jf_neg (by omega)] | rw [jf_pos (by omega)] | rw [ou_neg (by omega)] | rw [ou_pos (by omega)]))).val (by rw [oSym_o (by omega) (by omega)]) (fun k => by rw [oSym_o (by omega) (by omega)]), fun k k0 k1 => ?_, (hR.keep hv.2.2.1 fun c a k a0 a1 => by (repeat (first | rw [jf_neg (by omega)] | rw [jf_pos (by omega)] | rw [ou_neg (by omega)] | rw [ou_pos (by omega)]))).val (by rw [oSym_o (by omega) (by omega)]) (fun k => by rw [oSym_o (by omega) (by omega)])⟩ (vSym hv c1 hvs) (hD.keep fun c a k a0 a1 => by (repeat (first | rw [jf_neg (by omega)] | rw [jf_pos (by omega)] | rw [ou_neg (by omega)] | rw [ou_pos (by omega)]))) vdNew)
      rw [oSym_n] at k1
      by_cases ek : k = o 2 1 0
      · subst ek
        rw [oSym_4, hy]
        exact hsy _ fun c' a' k e => by (repeat (first | rw [jf_neg (by omega)] | rw [jf_pos (by omega)] | rw [ou_neg (by omega)] | rw [ou_pos (by omega)]))
      · rw [oSym_o (by omega) (by omega)]
        exact (hYY k k0 (by omega)).keep fun c a j a0 a1 => by (repeat (first | rw [jf_neg (by omega)] | rw [jf_pos (by omega)] | rw [ou_neg (by omega)] | rw [ou_pos (by omega)]))
    · refine ⟨_, .inr ⟨fun q => c6 (hw'.mpr q.2.2.2.2.2.2.2.2.2), rfl⟩, ?_⟩
      rw [if_pos (by omega)]
      exact jS_end (cMk.of hT G hO2 hv hD vdNew)
  by_cases c6 : how = 0
  · rw [if_pos c6]; exact good (.inl c6)
  · rw [if_neg c6]
    obtain ⟨r, er, r0, r1⟩ := c_taken hO hv hd T3 n3 (Int.le_refl _)
    rw [er, Option.bind_some]
    by_cases c7 : r = 0
    · rw [if_pos c7]; exact good (.inr fun q => by have := r1.mpr q; omega)
    · rw [if_neg c7]; exact no' _ fun q => by
        rcases q.2.2.2.2.2.2.2.2.1 with q | q
        · exact c6 q
        · exact q (r1.mp (by omega))
theorem wd_ok {k a : Int} : (kOK k → v_X51_width k a = kW k a) ∧ (¬ kOK k → v_X51_width k a = -1) := by
  constructor
  · intro h
    unfold kOK at h
    have : k = 1 ∨ k = 16 ∨ k = 17 ∨ k = 19 ∨ k = 23 ∨ k = 24 ∨ k = 25 ∨ k = 26 ∨ k = 27 ∨ k = 28 ∨ k = 33 ∨ k = 34 ∨ k = 35 ∨ k = 37 ∨ k = 38 ∨ k = 39 ∨ k = 43 ∨ k = 44 ∨ k = 45 ∨ k = 51 := by omega
    rcases this with rfl | rfl | rfl | rfl | rfl | rfl | rfl | rfl | rfl | rfl | rfl | rfl | rfl | rfl | rfl | rfl | rfl | rfl | rfl | rfl <;> rfl
  · intro h
    unfold kOK at h
    by_cases c : 1 ≤ k ∧ k ≤ 51
    · have : k = 2 ∨ k = 3 ∨ k = 4 ∨ k = 5 ∨ k = 6 ∨ k = 7 ∨ k = 8 ∨ k = 9 ∨ k = 10 ∨ k = 11 ∨ k = 12 ∨ k = 13 ∨ k = 14 ∨ k = 15 ∨ k = 18 ∨ k = 20 ∨ k = 21 ∨ k = 22 ∨ k = 29 ∨ k = 30 ∨ k = 31 ∨ k = 32 ∨ k = 36 ∨ k = 40 ∨ k = 41 ∨ k = 42 ∨ k = 46 ∨ k = 47 ∨ k = 48 ∨ k = 49 ∨ k = 50 := by omega
      rcases this with rfl | rfl | rfl | rfl | rfl | rfl | rfl | rfl | rfl | rfl | rfl | rfl | rfl | rfl | rfl | rfl | rfl | rfl | rfl | rfl | rfl | rfl | rfl | rfl | rfl | rfl | rfl | rfl | rfl | rfl | rfl <;> rfl
    · unfold v_X51_width
      repeat rw [if_neg (by omega)]
theorem kW_lo {k a : Int} (h : kOK k) (ha : k = 43 → 0 ≤ a) : 0 ≤ kW k a := by
  unfold kW; repeat' split
  all_goals omega
theorem kW_hi {k a : Int} (ha : k = 43 → 0 ≤ a ∧ a ≤ 62) : 0 ≤ kW k a ∧ kW k a ≤ 62 := by
  unfold kW; repeat' split
  all_goals omega
/-- a relocation's numbers as a row -/
def wRl (x at' k y a : Int) : Int → Int := fun j => if j = 0 then x else if j = 1 then at' else if j = 2 then k else if j = 3 then y else if j = 4 then a else 0
def rlOK (o : Int → Int → Int → Int) (x at' k y a : Int) : Prop := o 2 2 0 < 300 ∧ 0 ≤ x ∧ x ≤ 2 ∧ kOK k ∧ (x = 0 ∨ k = 1 ∨ 33 ≤ k ∧ k ≤ 39) ∧ 0 ≤ at' ∧ (k = 43 → 0 ≤ a ∧ a ≤ 62 ∧ a % 2 = 0) ∧ (if k = 43 ∨ k = 51 then y = -1 else 0 ≤ y ∧ y < o 2 1 0)
def oRel (o : Int → Int → Int → Int) (w : Int → Int) : Int → Int → Int → Int := fun c a k => if c = 5 ∧ a = o 2 2 0 then w k else if c = 2 ∧ a = 2 ∧ k = 0 then o 2 2 0 + 1 else o c a k
theorem oRel_5 : oRel o w 5 (o 2 2 0) = w := by funext k; unfold oRel; rw [if_pos ⟨rfl, rfl⟩]
theorem oRel_n : oRel o w 2 2 0 = o 2 2 0 + 1 := by unfold oRel; rw [if_neg (by omega), if_pos ⟨rfl, rfl, rfl⟩]
theorem oRel_o {c a : Int} (h : ¬ (c = 5 ∧ a = o 2 2 0)) (h' : ¬ (c = 2 ∧ a = 2)) : oRel o w c a = o c a := by funext k; unfold oRel; rw [if_neg h, if_neg (fun q => h' ⟨q.1, q.2.1⟩)]
theorem vRel (v : vOb o) (h : o 2 2 0 < 300) (hw : vRl (o 2 1 0) w) : vOb (oRel o w) := by
  obtain ⟨v1, v2, v3, v4, v5, v6⟩ := v
  obtain ⟨n1, n2, n3, n4, n5, n6⟩ := v3
  refine ⟨fun y y0 y1 => by rw [oRel_o (by omega) (by omega)]; exact v1 y y0 y1, v2.val (fun y => by rw [oRel_o (by omega) (by omega)]) (fun y k => by rw [oRel_o (by omega) (by omega)]), ?_, v4.val (by rw [oRel_o (by omega) (by omega)]) (fun k => by rw [oRel_o (by omega) (by omega)]), fun k k0 k1 => ?_, fun k k0 k1 => ?_⟩
  · unfold vObN
    rw [oRel_n, oRel_o (by omega) (by omega), oRel_o (by omega) (by omega)]
    omega
  · rw [oRel_o (by omega) (by omega)] at k1
    rw [oRel_o (by omega) (by omega)]; exact v5 k k0 k1
  · rw [oRel_n] at k1
    rw [oRel_o (c := 2) (a := 1) (by omega) (by omega)]
    by_cases e : k = o 2 2 0
    · subst e; rw [oRel_5]; exact hw
    · rw [oRel_o (by omega) (by omega)]; exact v6 k k0 (by omega)
theorem rlOK.v {x at' k y a : Int} (h : rlOK o x at' k y a) (h1 : at' ≤ 2147483647) (h2 : jin a) (h3 : 0 ≤ o 2 1 0) : vRl (o 2 1 0) (wRl x at' k y a) := by
  obtain ⟨a1, a2, a3, a4, a5, a6, a7, a8⟩ := h
  refine ⟨a2, a3, a6, h1, a4, ?_, ?_, h2, fun e => ⟨(a7 e).1, (a7 e).2.1⟩⟩
  · show -1 ≤ y
    split at a8 <;> omega
  · show y < o 2 1 0
    split at a8 <;> omega
theorem c_mreloc (h : cMk s O o d) {x at' k y a : Int} (hx : jin at') (ha : jin a) : ∃ o', (rlOK o x at' k y a ∧ o' = oRel o (wRl x at' k y a) ∨ ¬ rlOK o x at' k y a ∧ o' = o) ∧ jE (m_X13_relocation s O x at' k y a) fun q => jFx s q.1 O 1858 ∧ cMk q.1 O o' d := by
  obtain ⟨hT, hO, hv, hd, hvd⟩ := h
  obtain ⟨n1, n2, n3, n4, n5, n6⟩ := hv.2.2.1
  have hN2 := hO.2.2.2.1.2.1
  have hN3 := hO.2.2.2.1.2.2
  unfold jin at hx ha
  have no : ¬ rlOK o x at' k y a → ∃ o', (rlOK o x at' k y a ∧ o' = oRel o (wRl x at' k y a) ∨ ¬ rlOK o x at' k y a ∧ o' = o) ∧ jE (some (s, (-1 : Int))) fun q => jFx s q.1 O 1858 ∧ cMk q.1 O o' d := fun q => ⟨o, .inr ⟨q, rfl⟩, jS_end ⟨jFx.rfl, hT, hO, hv, hd, hvd⟩⟩
  rw [em_X13_relocation]; unfold dm_X13_relocation
  rw [hN3]
  by_cases c1 : o 2 2 0 = 300
  · rw [if_pos c1]; exact no fun q => by have := q.1; omega
  rw [if_neg c1]
  by_cases c2 : ¬ (0 ≤ x ∧ x ≤ 2)
  · rw [in_0 (by omega), Option.bind_some, if_pos rfl]; exact no fun q => c2 ⟨q.2.1, q.2.2.1⟩
  replace c2 := Decidable.not_not.mp c2
  rw [in_1 c2.1 c2.2, Option.bind_some, if_neg (by omega), e_X51_is, Option.bind_some]
  by_cases c3 : ¬ (kOK k ∧ (x = 0 ∨ k = 1 ∨ 33 ≤ k ∧ k ≤ 39))
  · rw [if_neg (show ¬ (¬ v_X51_width k 0 < 0 ∧ (x = 0 ∨ k = 1 ∨ ¬ k < 33 ∧ ¬ 39 < k)) from fun q => c3 ⟨Classical.byContradiction fun z => by have := (wd_ok (a := 0)).2 z; omega, by omega⟩), if_pos rfl]
    exact no fun q => c3 ⟨q.2.2.2.1, q.2.2.2.2.1⟩
  replace c3 := Classical.not_not.mp c3
  have hw0 := (wd_ok (a := 0)).1 c3.1
  have hw1 := kW_lo (a := 0) c3.1 (fun _ => by omega)
  rw [if_pos (show ¬ v_X51_width k 0 < 0 ∧ (x = 0 ∨ k = 1 ∨ ¬ k < 33 ∧ ¬ 39 < k) from ⟨by omega, by omega⟩), if_neg (by omega)]
  by_cases c4 : at' < 0
  · rw [if_pos c4]; exact no fun q => by have := q.2.2.2.2.2.1; omega
  rw [if_neg c4, e_X51_isAddend, Option.bind_some]
  have hi : I_rem a 2 = 0 ↔ a % 2 = 0 := I_rem_0 ⟨ha.1, ha.2⟩ (by omega) (by omega)
  by_cases c5 : ¬ (k = 43 → 0 ≤ a ∧ a ≤ 62 ∧ a % 2 = 0)
  · rw [if_pos (by omega)]; exact no fun q => c5 q.2.2.2.2.2.2.1
  replace c5 := Decidable.not_not.mp c5
  rw [if_neg (by omega), e_X51_isPlain, Option.bind_some]
  have yes : rlOK o x at' k y a → ∃ o', (rlOK o x at' k y a ∧ o' = oRel o (wRl x at' k y a) ∨ ¬ rlOK o x at' k y a ∧ o' = o) ∧ jE (u_X13_relocation_81 s O x at' k y a) fun q => jFx s q.1 O 1858 ∧ cMk q.1 O o' d := by
    intro ok
    refine ⟨_, .inl ⟨ok, rfl⟩, ?_⟩
    rw [eu_X13_relocation_81]; unfold du_X13_relocation_81
    rw [hN3, jix_in (by omega) (by omega), Option.bind_some, em_X18_set]; unfold dm_X18_set
    simp only [jls, Option.bind_some]
    generalize hz : O + 1 + 4 + 309 + 1 * o 2 2 0 = z
    have g1 : jFx s (jp (jp (jp (jp (jp s 22 z 0 x) 22 z 1 at') 22 z 2 k) 22 z 3 y) 22 z 4 a) z 1 := ((((jFx.rfl.jp rfl (by omega) (by omega)).jp rfl (by omega) (by omega)).jp rfl (by omega) (by omega)).jp rfl (by omega) (by omega)).jp rfl (by omega) (by omega)
    have hc : cRl (jp (jp (jp (jp (jp s 22 z 0 x) 22 z 1 at') 22 z 2 k) 22 z 3 y) 22 z 4 a) z (wRl x at' k y a) := by
      refine ⟨?_, ?_, ?_, ?_, ?_⟩
      · (repeat (first | rw [jf_neg (by omega)] | rw [jf_pos (by omega)] | rw [ou_neg (by omega)] | rw [ou_pos (by omega)])); rfl
      · (repeat (first | rw [jf_neg (by omega)] | rw [jf_pos (by omega)] | rw [ou_neg (by omega)] | rw [ou_pos (by omega)])); rfl
      · (repeat (first | rw [jf_neg (by omega)] | rw [jf_pos (by omega)] | rw [ou_neg (by omega)] | rw [ou_pos (by omega)])); rfl
      · (repeat (first | rw [jf_neg (by omega)] | rw [jf_pos (by omega)] | rw [ou_neg (by omega)] | rw [ou_pos (by omega)])); rfl
      · (repeat (first | rw [jf_neg (by omega)] | rw [jf_pos (by omega)] | rw [ou_neg (by omega)] | rw [ou_pos (by omega)])); rfl
    generalize jp (jp (jp (jp (jp s 22 z 0 x) 22 z 1 at') 22 z 2 k) 22 z 3 y) 22 z 4 a = s1 at g1 hc ⊢
    rw [g1.F (by omega), hN3, W32_in (by omega) (by omega)]
    obtain ⟨hL, hA, hB, hN, hS, hYY, hR⟩ := hO
    have hO : ∀ c a k, ¬ a = z → jf s1 c a k = jf s c a k := fun c a k e => g1.F (by omega) k
    have G : jFx s (jp s1 18 (O + 1) 6 (o 2 2 0 + 1)) O 1858 := (g1.wide (by omega) (by omega)).jp rfl (by omega) (by omega)
    refine jS_end (cMk.of hT G ⟨fun x x0 x1 => by rw [G.N]; exact hL x x0 x1, (hA.keep fun x k x0 x1 => by (repeat (first | rw [jf_neg (by omega)] | rw [jf_pos (by omega)] | rw [ou_neg (by omega)] | rw [ou_pos (by omega)])); exact hO _ _ _ (by omega)).val fun x k => by rw [oRel_o (by omega) (by omega)], (hB.keep fun x k x0 x1 => by (repeat (first | rw [jf_neg (by omega)] | rw [jf_pos (by omega)] | rw [ou_neg (by omega)] | rw [ou_pos (by omega)])); exact hO _ _ _ (by omega)).val (fun x k => by rw [oRel_o (by omega) (by omega)]) (fun x k => by rw [oRel_o (by omega) (by omega)]), ⟨by rw [oRel_o (by omega) (by omega)]; (repeat (first | rw [jf_neg (by omega)] | rw [jf_pos (by omega)] | rw [ou_neg (by omega)] | rw [ou_pos (by omega)])); rw [hO _ _ _ (by omega)]; exact hN.1, by rw [oRel_o (by omega) (by omega)]; (repeat (first | rw [jf_neg (by omega)] | rw [jf_pos (by omega)] | rw [ou_neg (by omega)] | rw [ou_pos (by omega)])); rw [hO _ _ _ (by omega)]; exact hN.2.1, by rw [oRel_n]; (repeat (first | rw [jf_neg (by omega)] | rw [jf_pos (by omega)] | rw [ou_neg (by omega)] | rw [ou_pos (by omega)]))⟩, (hS.keep fun k => by (repeat (first | rw [jf_neg (by omega)] | rw [jf_pos (by omega)] | rw [ou_neg (by omega)] | rw [ou_pos (by omega)])); exact hO _ _ _ (by omega)).val (by rw [oRel_o (by omega) (by omega)]) (fun k => by rw [oRel_o (by omega) (by omega)]), (hYY.keep hv.2.2.1 fun c a k a0 a1 => by (repeat (first | rw [jf_neg (by omega)] | rw [jf_pos (by omega)] | rw [ou_neg (by omega)] | rw [ou_pos (by omega)])); exact hO _ _ _ (by omega)).val (by rw [oRel_o (by omega) (by omega)]) (fun k => by rw [oRel_o (by omega) (by omega)]), fun j j0 j1 => ?_⟩ (vRel hv (by omega) (ok.v (by omega) ha n3)) (hd.keep fun c a k a0 a1 => by (repeat (first | rw [jf_neg (by omega)] | rw [jf_pos (by omega)] | rw [ou_neg (by omega)] | rw [ou_pos (by omega)])); exact hO _ _ _ (by omega)) hvd)
    rw [oRel_n] at j1
    by_cases ek : j = o 2 2 0
    · subst ek
      rw [oRel_5, hz]
      exact hc.keep fun i => by (repeat (first | rw [jf_neg (by omega)] | rw [jf_pos (by omega)] | rw [ou_neg (by omega)] | rw [ou_pos (by omega)]))
    · rw [oRel_o (by omega) (by omega)]
      exact (hR j j0 (by omega)).keep fun i => by (repeat (first | rw [jf_neg (by omega)] | rw [jf_pos (by omega)] | rw [ou_neg (by omega)] | rw [ou_pos (by omega)])); exact hO _ _ _ (by omega)
  by_cases c6 : k = 43 ∨ k = 51
  · rw [if_pos c6, if_neg (by omega)]
    by_cases c7 : y = -1
    · rw [if_pos c7]; exact yes ⟨by omega, c2.1, c2.2, c3.1, c3.2, by omega, c5, by rw [if_pos c6]; exact c7⟩
    · rw [if_neg c7]; exact no fun q => by
        have := q.2.2.2.2.2.2.2
        rw [if_pos c6] at this; exact c7 this
  · rw [if_neg c6, if_pos rfl, hN2, W32_in (by omega) (by omega)]
    by_cases c7 : 0 ≤ y ∧ y ≤ o 2 1 0 - 1
    · rw [in_1 c7.1 c7.2, Option.bind_some, if_neg (by omega)]
      exact yes ⟨by omega, c2.1, c2.2, c3.1, c3.2, by omega, c5, by rw [if_neg c6]; omega⟩
    · rw [in_0 (by omega), Option.bind_some, if_pos rfl]; exact no fun q => by
        have := q.2.2.2.2.2.2.2
        rw [if_neg c6] at this; omega
end jMade3
