/-! the component reads a file: a symbol, all symbols -/
section jCread7
variable {s t u : jS} {B N R n p f a b x y z e k m : Int} {g g' : Int → Int} {o : Int → Int → Int → Int} {st sy rl : Int} {d w : Int → Int}
/-- while symbols and so on are read -/
def rO (s u : jS) (R B : Int) (g : Int → Int) (n st sy rl : Int) : Prop := rH s u R B g n ∧ rN u R g ∧ cOb u (R + 3) (oP g st sy rl) ∧ vOb (oP g st sy rl)
theorem nSy_lo (h : Pr g n) : 1 ≤ nSy g ∧ nSy g ≤ 101 ∧ sR g 8 = 16 * nSy g := by
  obtain ⟨h1, h2, h3⟩ := h.s8
  unfold nSy; omega
theorem ySy_in (h : Pr g n) (x0 : 0 ≤ x) (x1 : x < nSy g) : 52 ≤ ySy g x ∧ ySy g x + 16 ≤ n := by
  obtain ⟨p1, p2, p3, p4, -⟩ := h.part (k := 8) (by omega)
  obtain ⟨h1, h2, h3⟩ := nSy_lo h
  unfold ySy; omega
/-- a good symbol's row -/
theorem ySw_ok (h : Pr g n) (x0 : 1 ≤ x) (x1 : x < nSy g) (h1 : nmG g (yNm g x)) (h2 : yHw g x < 3 ∧ g (ySy g x + 12) % 16 < 3) (h3 : ¬ yWh g x = -2) (h4 : yAm g x = 0) : vSy (ySw g x) := by
  obtain ⟨m, hm, m1, m2, m3⟩ := h1
  obtain ⟨y1, y2⟩ := ySy_in h (x := x) (by omega) x1
  have hb := h.2.2.2.2.2.1 (ySy g x + 12) (by omega) (by omega)
  have hnl := nLn_of hm
  have hv := r4_lo h.2.2.2.2.2.1 (p := ySy g x + 4) (by omega) (by omega)
  have hz := r4_lo h.2.2.2.2.2.1 (p := ySy g x + 8) (by omega) (by omega)
  have hv' : 0 ≤ yVa g x ∧ yVa g x < 4294967296 := hv
  have hz' : 0 ≤ ySz g x ∧ ySz g x < 4294967296 := hz
  have hw0 : 0 ≤ yHw g x := by unfold yHw; omega
  have wh : yWh g x = -1 ∨ yWh g x = 4 ∨ yWh g x = 5 ∨ yWh g x = 0 ∨ yWh g x = 1 ∨ yWh g x = 2 ∨ yWh g x = 3 := by
    unfold yWh at *
    repeat' split at h3
    all_goals simp_all
  refine ⟨?_, ?_, W32_lo _, W32_lo _, hw0, by show yHw g x ≤ 2; omega, by show 0 ≤ g (ySy g x + 12) % 16; omega, by show g (ySy g x + 12) % 16 ≤ 2; omega, by show 1 ≤ nLn g (yNm g x); omega, ⟨by show 0 ≤ nLn g (yNm g x); omega, by show nLn g (yNm g x) ≤ 16; omega, fun i i0 i1 => ?_⟩, ?_⟩
  · show -1 ≤ yWh g x
    omega
  · show yWh g x ≤ 5
    omega
  · have i1 : i < nLn g (yNm g x) := i1
    have := m3 i i0 (by omega)
    unfold ySw
    rw [if_neg (by omega), if_neg (by omega), if_neg (by omega), if_neg (by omega), if_neg (by omega), if_neg (by omega), show yNm g x + (6 + i - 6) = yNm g x + i by omega]
    exact this
  · have e0 : ySw g x 0 = yWh g x := rfl
    have e1 : ySw g x 1 = W32 (yVa g x) := rfl
    have e2 : ySw g x 2 = W32 (ySz g x) := rfl
    have e3 : ySw g x 3 = yHw g x := rfl
    unfold wOK
    rw [e0, e1, e2, e3]
    unfold yAm at h4
    have p3 := h.part3
    have ps : ∀ k : Nat, sR g k ≤ 4096 ∨ True := fun _ => .inr trivial
    by_cases c1 : yWh g x = -1
    · rw [if_pos c1] at h4
      rw [if_pos c1]
      by_cases q1 : yVa g x = 0
      · rw [if_neg (not_not_intro q1)] at h4
        by_cases q2 : ySz g x = 0
        · rw [if_neg (not_not_intro q2)] at h4
          by_cases q3 : yHw g x = 0
          · rw [if_pos q3] at h4; omega
          · rw [q1, q2]; exact ⟨by rw [W32_in (by omega) (by omega)], by rw [W32_in (by omega) (by omega)], q3⟩
        · rw [if_pos q2] at h4; omega
      · rw [if_pos q1] at h4; omega
    rw [if_neg c1] at h4
    rw [if_neg c1]
    by_cases c5 : yWh g x = 5
    · rw [if_pos c5] at h4
      rw [if_neg (by omega), if_pos c5]
      by_cases q1 : pwB (yVa g x) = true
      · rw [if_neg (not_not_intro q1)] at h4
        have q1' := pwB_i.mp q1
        have ql := q1'.lo
        by_cases q2 : ySz g x < 1 ∨ 4096 < ySz g x
        · rw [if_pos q2] at h4; omega
        · rw [if_neg q2] at h4
          by_cases q3 : yHw g x = 1
          · rw [W32_in (by omega) (by omega), W32_in (by omega) (by omega)]
            exact ⟨q1', by omega, by omega, q3⟩
          · rw [if_pos q3] at h4; omega
      · rw [if_pos q1] at h4; omega
    rw [if_neg c5] at h4
    by_cases c4 : yWh g x = 4
    · rw [if_pos c4] at h4
      rw [if_pos c4]
      by_cases q1 : 2147483647 < ySz g x
      · rw [if_pos q1] at h4; omega
      · rw [W32_in (by omega) (by omega)]; omega
    · rw [if_neg c4] at h4
      rw [if_neg c4, if_neg c5]
      have hs : sR g (yWh g x).toNat ≤ 4096 := by
        by_cases q : (yWh g x).toNat = 3
        · rw [q]; exact p3.2
        · have := h.sec (k := (yWh g x).toNat) (by omega)
          omega
      by_cases q1 : sR g (yWh g x).toNat < yVa g x
      · rw [if_pos q1] at h4; omega
      · rw [if_neg q1] at h4
        by_cases q2 : sR g (yWh g x).toNat < yVa g x + ySz g x
        · rw [if_pos q2] at h4; omega
        · rw [W32_in (by omega) (by omega), W32_in (by omega) (by omega)]; omega
/-- names that are the same -/
theorem yEq_i {q : Int} {M K : Int} (hM : nmLe g p M) (hK : nmLe g q K) : yEq g p q ↔ sameNm (dN g p M) (dN g q K) := by
  constructor
  · rintro ⟨m, h1, h2, h3⟩
    have e1 := nmL_one h1 hM
    have e2 := nmL_one h2 hK
    subst e1
    refine ⟨e2, fun i i0 i1 => ?_⟩
    have i1 : i < m := i1
    unfold dN
    rw [if_neg (by omega), if_neg (by omega), show p + (6 + i - 6) = p + i by omega, show q + (6 + i - 6) = q + i by omega]
    exact h3 i i0 i1
  · rintro ⟨h1, h2⟩
    have e : M = K := h1
    subst e
    refine ⟨M, hM, hK, fun i i0 i1 => ?_⟩
    have := h2 i i0 i1
    unfold dN at this
    rw [if_neg (by omega), if_neg (by omega), show p + (6 + i - 6) = p + i by omega, show q + (6 + i - 6) = q + i by omega] at this
    exact this
theorem ySw_nm {M : Int} (hM : nmLe g (yNm g x) M) : ∀ k, 5 ≤ k → ySw g x k = dN g (yNm g x) M k := fun k k0 => by
  unfold ySw dN
  rw [if_neg (by omega), if_neg (by omega), if_neg (by omega), if_neg (by omega), if_neg (by omega), nLn_of hM]
/-- what is wrong with a draft -/
theorem c_ram (h : rO s u R B g n st sy rl) (C : rC s R B g n) (hP : Pr g n) (x0 : 1 ≤ x) (x1 : x < nSy g) (hw : ¬ yWh g x = -2) (hh : yHw g x < 3) (f1 : jf u 20 (R + 616) 1 = yWh g x) (f2 : jf u 20 (R + 616) 2 = W32 (yVa g x)) (f3 : jf u 20 (R + 616) 3 = W32 (ySz g x)) (f4 : jf u 20 (R + 616) 4 = yHw g x) {S : Type} {K : jS → Int → Option S} :
    ((m_X13_in u (yWh g x) 0 3).bind fun v5 => (m_X16_wrong u (R + 616)).bind fun v6 => if v5 = 0 then K u v6 else if v6 = 1 then K u v6 else (m_X14_room u (R + 3) (yWh g x)).bind fun v7 => (m_X16_beyond u (R + 616) v7).bind fun v8 => if v8 = 1 then K u 1 else if v6 = 0 then (m_X14_room u (R + 3) (yWh g x)).bind fun v9 => (m_X16_beyond u (R + 616) v9).bind fun v10 => K u v10 else K u v6) = K u (yAm g x / 4) := by
  obtain ⟨y1, y2⟩ := ySy_in hP (x := x) (by omega) x1
  have hv : 0 ≤ yVa g x ∧ yVa g x < 4294967296 := r4_lo hP.2.2.2.2.2.1 (p := ySy g x + 4) (by omega) (by omega)
  have hz : 0 ≤ ySz g x ∧ ySz g x < 4294967296 := r4_lo hP.2.2.2.2.2.1 (p := ySy g x + 8) (by omega) (by omega)
  have hb := hP.2.2.2.2.2.1 (ySy g x + 12) (by omega) (by omega)
  have hw0 : 0 ≤ yHw g x := by unfold yHw; omega
  have wv : W32 (yVa g x) = if yVa g x < 2147483648 then yVa g x else yVa g x - 4294967296 := by
    have := W32_mod (yVa g x)
    have := W32_lo (yVa g x)
    split <;> omega
  have wz : W32 (ySz g x) = if ySz g x < 2147483648 then ySz g x else ySz g x - 4294967296 := by
    have := W32_mod (ySz g x)
    have := W32_lo (ySz g x)
    split <;> omega
  have wh : yWh g x = -1 ∨ yWh g x = 4 ∨ yWh g x = 5 ∨ yWh g x = 0 ∨ yWh g x = 1 ∨ yWh g x = 2 ∨ yWh g x = 3 := by
    unfold yWh at *
    repeat' split at hw
    all_goals simp_all
  rw [e_X16_wrong]
  simp only [Option.bind_some]
  unfold v_X16_wrong yAm
  rw [f1, f2, f3, f4]
  by_cases c1 : yWh g x = -1
  · rw [in_0 (by omega), Option.bind_some, if_pos rfl, if_pos c1, if_pos c1]
    have W0 : W32 0 = 0 := W32_in (by omega) (by omega)
    by_cases q1 : yVa g x = 0
    · rw [q1, W0, if_pos rfl, if_neg (not_not_intro rfl)]
      by_cases q2 : ySz g x = 0
      · rw [q2, W0, if_pos rfl, if_neg (not_not_intro rfl)]
        by_cases q3 : yHw g x = 0
        · rw [if_pos q3, if_pos q3]; rfl
        · rw [if_neg q3, if_neg q3]; rfl
      · have z0 : ¬ W32 (ySz g x) = 0 := by rw [wz]; split <;> omega
        rw [if_neg z0, if_pos q2]; rfl
    · have z0 : ¬ W32 (yVa g x) = 0 := by rw [wv]; split <;> omega
      rw [if_neg z0, if_pos q1]; rfl
  rw [if_neg c1, if_neg c1]
  by_cases c5 : yWh g x = 5
  · rw [in_0 (by omega), Option.bind_some, if_pos rfl, if_neg (by omega), if_pos c5, if_pos c5]
    by_cases q1 : pwB (yVa g x) = true
    · have q1' := pwB_i.mp q1
      have ql := q1'.lo
      rw [if_neg (not_not_intro q1), show W32 (yVa g x) = yVa g x from W32_in (by omega) (by omega), if_pos (pw_al.mpr q1')]
      by_cases q2 : ySz g x < 1 ∨ 4096 < ySz g x
      · rw [if_pos q2, if_neg (by rw [wz]; split <;> omega)]; rfl
      · rw [if_neg q2, if_pos (by rw [wz]; split <;> omega)]
        by_cases q3 : yHw g x = 1
        · rw [if_pos q3, if_neg (not_not_intro q3)]; rfl
        · rw [if_neg q3, if_pos q3]; rfl
    · have : ¬ pPw (W32 (yVa g x)) := fun z => q1 (pwB_i.mpr (by
        have hl := z.lo
        rw [wv] at z hl
        by_cases q : yVa g x < 2147483648
        · rw [if_pos q] at z; exact z
        · rw [if_neg q] at hl; omega))
      rw [if_pos q1, if_neg (fun z => this (pw_al.mp z))]; rfl
  rw [if_neg c5, if_neg c5]
  by_cases c4 : yWh g x = 4
  · rw [in_0 (by omega), Option.bind_some, if_pos rfl, if_pos c4, if_pos c4]
    by_cases q1 : 2147483647 < ySz g x
    · rw [if_pos (by rw [wz]; split <;> omega), if_pos q1]; rfl
    · rw [if_neg (by rw [wz]; split <;> omega), if_neg q1]; rfl
  · rw [in_1 (by omega) (by omega), Option.bind_some, if_neg (by decide), if_neg c4, if_neg c4]
    have hs : 0 ≤ sR g (yWh g x).toNat ∧ sR g (yWh g x).toNat ≤ 4096 := by
      by_cases q : (yWh g x).toNat = 3
      · rw [q]; exact hP.part3
      · have := hP.sec (k := (yWh g x).toNat) (by omega)
        have := (hP.part (k := (yWh g x).toNat) q).2.1
        omega
    have hroom : m_X14_room u (R + 3) (yWh g x) = some (sR g (yWh g x).toNat) := by
      rw [e_X14_room _ _ _ (by omega), (h.2.2.1.2.1 _ (by omega) (by omega)).1]; rfl
    have hbey : m_X16_beyond u (R + 616) (sR g (yWh g x).toNat) = some (if sR g (yWh g x).toNat < W32 (yVa g x) then 1 else if sR g (yWh g x).toNat < W32 (yVa g x) + W32 (ySz g x) then 2 else 0) := by
      have := W32_lo (yVa g x)
      have := W32_lo (ySz g x)
      rw [e_X16_beyond, f2, f3, W64_in (by omega) (by omega)]
    simp only [hroom, hbey, Option.bind_some]
    rw [wv, wz]
    by_cases q1 : yVa g x < 2147483648
    · rw [if_pos q1]
      by_cases q3 : sR g (yWh g x).toNat < yVa g x
      · rw [if_pos q3, if_pos q3, if_neg (show ¬ yVa g x < 0 by omega), if_pos rfl]
        by_cases q2 : ySz g x < 2147483648
        · rw [if_pos q2, if_neg (show ¬ ySz g x < 0 by omega), if_neg (by decide)]; rfl
        · rw [if_neg q2, if_pos (show ySz g x - 4294967296 < 0 by omega), if_neg (by decide)]; rfl
      · rw [if_neg q3, if_neg q3, if_neg (show ¬ yVa g x < 0 by omega)]
        by_cases q2 : ySz g x < 2147483648
        · rw [if_pos q2, if_neg (show ¬ ySz g x < 0 by omega), if_neg (by decide)]
          by_cases q4 : sR g (yWh g x).toNat < yVa g x + ySz g x
          · rw [if_pos q4, if_pos q4]; rfl
          · rw [if_neg q4, if_neg q4]; rfl
        · rw [if_neg q2, if_pos (show ySz g x - 4294967296 < 0 by omega), if_neg (by decide), if_neg (show ¬ sR g (yWh g x).toNat < yVa g x + (ySz g x - 4294967296) by omega), if_neg (by decide), if_neg (by decide), if_pos (show sR g (yWh g x).toNat < yVa g x + ySz g x by omega)]; rfl
    · rw [if_neg q1, if_pos (show yVa g x - 4294967296 < 0 by omega), if_pos rfl, if_pos (show sR g (yWh g x).toNat < yVa g x by omega)]; rfl
theorem c_rsym (C : rC s R B g n) (h : rO s u R B g n 0 (x - 1) 0) (hP : Pr g n) (x0 : 1 ≤ x) (x1 : x < nSy g) (hG : ∀ i, 1 ≤ i → i < x → Gd (Lsym g i)) : jE (m_X21_readSymbol u R (ySy g x)) (ckR (cOK fun t => rO s t R B g n 0 x 0) (cBD s R) (Lsym g x)) := by
  have hn := C.1.2.1
  obtain ⟨hH, hr, hO, hV⟩ := h
  obtain ⟨y1, y2⟩ := ySy_in hP (x := x) (by omega) x1
  obtain ⟨n1, n2, n3⟩ := nSy_lo hP
  obtain ⟨p1, p2, p3, p4, -⟩ := hP.part (k := 9) (by omega)
  obtain ⟨-, tB, tD⟩ := T41 C.2.2.2
  have hb := hP.2.2.2.2.2.1
  have b12 := hb (ySy g x + 12) (by omega) (by omega)
  have v0 := r4_lo hb (p := ySy g x) (by omega) (by omega)
  unfold Lsym
  rw [em_X21_readSymbol]; unfold dm_X21_readSymbol
  rw [g_u4 C hH.1 (by omega) (by omega)]
  obtain ⟨q, eq, kq, hq⟩ := c_rname C hH hr hP v0.1 v0.2
  rw [eq, Option.bind_some]
  have H1 := hH.fx (kq.sub (by omega) (by omega))
  have hq01 : q.2 = 0 ∨ q.2 = 1 := by rcases hq with z | z <;> omega
  have hqi : q.2 = 1 ↔ r4 g (ySy g x) < sR g 9 ∧ nmG g (yNm g x) := by
    rcases hq with ⟨z1, z2, z3, z4⟩ | ⟨z1, z2⟩
    · exact ⟨fun _ => ⟨z1, z2⟩, fun _ => z3⟩
    · exact ⟨fun z => by omega, fun z => absurd z z1⟩
  refine nd_x C H1.1.1 hq01 hqi (fun q hq => hq.end) fun c22 => ?_
  dsimp only
  have hNm : cNm q.1 (R + 617) (dN g (yNm g x) (nLn g (yNm g x))) := by
    rcases hq with z | z
    · exact z.2.2.2
    · exact absurd c22 z.1
  obtain ⟨M, hM, m1, m2, m3⟩ := c22.2
  have hNL := nLn_of hM
  rw [hNL] at hNm
  clear eq hq hqi hq01
  generalize q.1 = t at kq H1 hNm ⊢
  rw [W32_in (z := ySy g x + 12) (by omega) (by omega), g_u1 C H1.1 (by omega) (by omega)]
  have i4 : I_shr (g (ySy g x + 12)) 4 = yHw g x := i_shr_p (by omega) (by omega) (by omega)
  have i15 : I_and (g (ySy g x + 12)) 15 = g (ySy g x + 12) % 16 := I_and_15 _
  rw [i4, i15]
  have e51 : u_X21_readSymbol_51 t R (ySy g x) (g (ySy g x + 12)) R = u_X21_readSymbol_52 t R (ySy g x) (g (ySy g x + 12)) 0 R := by rw [eu_X21_readSymbol_51]; rfl
  have ea : (if yHw g x < 3 then if g (ySy g x + 12) % 16 < 3 then u_X21_readSymbol_52 t R (ySy g x) (g (ySy g x + 12)) 1 R else u_X21_readSymbol_51 t R (ySy g x) (g (ySy g x + 12)) R else u_X21_readSymbol_51 t R (ySy g x) (g (ySy g x + 12)) R) = if g (ySy g x + 12) / 16 < 3 ∧ g (ySy g x + 12) % 16 < 3 then u_X21_readSymbol_52 t R (ySy g x) (g (ySy g x + 12)) 1 R else u_X21_readSymbol_52 t R (ySy g x) (g (ySy g x + 12)) 0 R := by
    rw [e51]
    show (if g (ySy g x + 12) / 16 < 3 then _ else _) = _
    by_cases c1 : g (ySy g x + 12) / 16 < 3 <;> by_cases c2 : g (ySy g x + 12) % 16 < 3 <;> simp only [c1, c2, eq_self, and_false, false_and, and_true, true_and, if_true, if_false, reduceIte, Int.reduceEq, Int.reduceLT, Int.reduceLE, Int.reduceNeg, not_false_eq_true, Option.bind_some, jls]
  rw [ea]
  refine nd_if C H1.1.1 (by rw [eu_X21_readSymbol_52]; unfold du_X21_readSymbol_52; rw [W32_in (z := ySy g x + 12) (by omega) (by omega)]) (by rw [eu_X21_readSymbol_52]; unfold du_X21_readSymbol_52; rw [W32_in (z := ySy g x + 12) (by omega) (by omega)]) Iff.rfl (fun q hq => hq.end) fun c23 => ?_
  dsimp only
  rw [W32_in (z := ySy g x + 13) (by omega) (by omega), g_u1 C H1.1 (by omega) (by omega)]
  refine nd_if C H1.1.1 (by rw [eu_X21_readSymbol_81]; unfold du_X21_readSymbol_81; rw [W32_in (z := ySy g x + 13) (by omega) (by omega)]) (by rw [eu_X21_readSymbol_81]; unfold du_X21_readSymbol_81; rw [W32_in (z := ySy g x + 13) (by omega) (by omega)]) Iff.rfl (fun q hq => hq.end) fun c23' => ?_
  dsimp only
  have hcnt : jf t 18 (R + 3) 4 = x - 1 := by rw [kq.F (by omega)]; exact hO.2.2.2.1.2.1
  have e128 : (if 0 < jf t 18 (R + 3) 4 then (jix 100 (W32 (jf t 18 (R + 3) 4 - 1)) (((R + 3) + 3) + 10 + 3 * (W32 (jf t 18 (R + 3) 4 - 1)))).bind fun v2 => if jf t 20 v2 4 = 0 then u_X21_readSymbol_127 t R (ySy g x) (g (ySy g x + 12)) else u_X21_readSymbol_128 t R (ySy g x) (g (ySy g x + 12)) 1 else u_X21_readSymbol_127 t R (ySy g x) (g (ySy g x + 12))) = if 0 < yHw g x ∨ x = 1 ∨ yHw g (x - 1) = 0 then u_X21_readSymbol_145 t R (ySy g x) (g (ySy g x + 12)) 1 R else u_X21_readSymbol_145 t R (ySy g x) (g (ySy g x + 12)) 0 R := by
    have e127 : u_X21_readSymbol_127 t R (ySy g x) (g (ySy g x + 12)) = u_X21_readSymbol_128 t R (ySy g x) (g (ySy g x + 12)) 0 := by rw [eu_X21_readSymbol_127]; rfl
    have e128 : ∀ z, u_X21_readSymbol_128 t R (ySy g x) (g (ySy g x + 12)) z = if 0 < yHw g x ∨ z = 0 then u_X21_readSymbol_145 t R (ySy g x) (g (ySy g x + 12)) 1 R else u_X21_readSymbol_145 t R (ySy g x) (g (ySy g x + 12)) 0 R := fun z => by
      rw [eu_X21_readSymbol_128]; unfold du_X21_readSymbol_128
      rw [i4, eu_X21_readSymbol_140]; unfold du_X21_readSymbol_140
      by_cases c1 : 0 < yHw g x <;> by_cases c2 : z = 0 <;> simp only [c1, c2, eq_self, and_false, false_and, and_true, true_and, if_true, if_false, reduceIte, Int.reduceEq, Int.reduceLT, Int.reduceLE, Int.reduceNeg, not_false_eq_true, Option.bind_some, jls, or_true, true_or, or_self, or_false, false_or]
    rw [e127, e128, e128, hcnt]
    by_cases c1 : x = 1
    · rw [if_neg (by omega), if_pos (.inr rfl), if_pos (.inr (.inl c1))]
    · have hpr := (hO.2.2.2.2.2.1 (x - 1 - 1) (by omega) (by rw [oP_21]; omega)).2.2.2.1
      have hpr' : jf t 20 ((R + 3 + 3) + 10 + 3 * (x - 1 - 1)) 4 = yHw g (x - 1) := by
        rw [kq.F (by omega), hpr]
        show yHw g (x - 1 - 1 + 1) = _
        rw [Int.sub_add_cancel]
      rw [if_pos (by omega), W32_in (z := x - 1 - 1) (by omega) (by omega), jix_in (by omega) (by omega), Option.bind_some, hpr']
      by_cases c2 : yHw g (x - 1) = 0
      · rw [if_pos c2, if_pos (.inr rfl), if_pos (.inr (.inr c2))]
      · rw [if_neg c2]
        by_cases c3 : 0 < yHw g x
        · rw [if_pos (.inl c3), if_pos (.inl c3)]
        · rw [if_neg (by omega), if_neg (by omega)]
  rw [e128]
  refine nd_if C H1.1.1 (by rw [eu_X21_readSymbol_145]; unfold du_X21_readSymbol_145; rw [W32_in (z := ySy g x + 12) (by omega) (by omega)]) (by rw [eu_X21_readSymbol_145]; unfold du_X21_readSymbol_145; rw [W32_in (z := ySy g x + 12) (by omega) (by omega)]) Iff.rfl (fun q hq => hq.end) fun c24 => ?_
  dsimp only
  have v14 := r2_lo hb (p := ySy g x + 14) (by omega) (by omega)
  have hr1 : rN t R g := hr.fx (kq.wide (by omega) (by omega))
  rw [W32_in (z := ySy g x + 14) (by omega) (by omega), g_u2 C H1.1 (by omega) (by omega), c_rwhere hr1 hP v14.1, Option.bind_some]
  have wh : yWh g x = -2 ∨ yWh g x = -1 ∨ yWh g x = 4 ∨ yWh g x = 5 ∨ yWh g x = 0 ∨ yWh g x = 1 ∨ yWh g x = 2 ∨ yWh g x = 3 := by
    unfold yWh
    repeat' split
    all_goals simp_all
  refine nd_if C H1.1.1 (by rw [eu_X21_readSymbol_184]; unfold du_X21_readSymbol_184; rw [W32_in (z := ySy g x + 14) (by omega) (by omega)]) (by rw [eu_X21_readSymbol_184]; unfold du_X21_readSymbol_184; rw [W32_in (z := ySy g x + 14) (by omega) (by omega)]) (by
    by_cases c : yWh g x = -2
    · rw [if_pos c]; omega
    · rw [if_neg c]; omega) (fun q hq => hq.end) fun c25 => ?_
  dsimp only
  rw [if_neg c25, W32_in (z := ySy g x + 4) (by omega) (by omega), g_s4 C H1.1 (by omega) (by omega), W32_in (z := ySy g x + 8) (by omega) (by omega), g_s4 C H1.1 (by omega) (by omega), i4, i15, em_X16_set]; unfold dm_X16_set
  simp only [jls, Option.bind_some]
  have k2 : jFx t (jp (jp (jp (jp (jp t 20 (R + 616) 1 (yWh g x)) 20 (R + 616) 2 (W32 (r4 g (ySy g x + 4)))) 20 (R + 616) 3 (W32 (r4 g (ySy g x + 8)))) 20 (R + 616) 4 (yHw g x)) 20 (R + 616) 5 (g (ySy g x + 12) % 16)) (R + 616) 1 := ((((jFx.rfl.jp rfl (by omega) (by omega)).jp rfl (by omega) (by omega)).jp rfl (by omega) (by omega)).jp rfl (by omega) (by omega)).jp rfl (by omega) (by omega)
  have fs : jf (jp (jp (jp (jp (jp t 20 (R + 616) 1 (yWh g x)) 20 (R + 616) 2 (W32 (r4 g (ySy g x + 4)))) 20 (R + 616) 3 (W32 (r4 g (ySy g x + 8)))) 20 (R + 616) 4 (yHw g x)) 20 (R + 616) 5 (g (ySy g x + 12) % 16)) 20 (R + 616) 1 = yWh g x ∧ jf (jp (jp (jp (jp (jp t 20 (R + 616) 1 (yWh g x)) 20 (R + 616) 2 (W32 (r4 g (ySy g x + 4)))) 20 (R + 616) 3 (W32 (r4 g (ySy g x + 8)))) 20 (R + 616) 4 (yHw g x)) 20 (R + 616) 5 (g (ySy g x + 12) % 16)) 20 (R + 616) 2 = W32 (yVa g x) ∧ jf (jp (jp (jp (jp (jp t 20 (R + 616) 1 (yWh g x)) 20 (R + 616) 2 (W32 (r4 g (ySy g x + 4)))) 20 (R + 616) 3 (W32 (r4 g (ySy g x + 8)))) 20 (R + 616) 4 (yHw g x)) 20 (R + 616) 5 (g (ySy g x + 12) % 16)) 20 (R + 616) 3 = W32 (ySz g x) ∧ jf (jp (jp (jp (jp (jp t 20 (R + 616) 1 (yWh g x)) 20 (R + 616) 2 (W32 (r4 g (ySy g x + 4)))) 20 (R + 616) 3 (W32 (r4 g (ySy g x + 8)))) 20 (R + 616) 4 (yHw g x)) 20 (R + 616) 5 (g (ySy g x + 12) % 16)) 20 (R + 616) 4 = yHw g x ∧ jf (jp (jp (jp (jp (jp t 20 (R + 616) 1 (yWh g x)) 20 (R + 616) 2 (W32 (r4 g (ySy g x + 4)))) 20 (R + 616) 3 (W32 (r4 g (ySy g x + 8)))) 20 (R + 616) 4 (yHw g x)) 20 (R + 616) 5 (g (ySy g x + 12) % 16)) 20 (R + 616) 5 = g (ySy g x + 12) % 16 := by
    refine ⟨?_, ?_, ?_, ?_, ?_⟩ <;> (repeat (first | rw [jf_neg (by omega)] | rw [jf_pos (by omega)] | rw [ou_neg (by omega)] | rw [ou_pos (by omega)])) <;> rfl
  generalize jp (jp (jp (jp (jp t 20 (R + 616) 1 (yWh g x)) 20 (R + 616) 2 (W32 (r4 g (ySy g x + 4)))) 20 (R + 616) 3 (W32 (r4 g (ySy g x + 8)))) 20 (R + 616) 4 (yHw g x)) 20 (R + 616) 5 (g (ySy g x + 12) % 16) = t2 at k2 fs ⊢
  obtain ⟨f1, f2, f3, f4, f5⟩ := fs
  have k02 : jFx u t2 (R + 616) 3 := (kq.wide (by omega) (by omega)).trans (k2.wide (by omega) (by omega))
  have H2 := hH.fx (k02.sub (by omega) (by omega))
  have hr2 : rN t2 R g := hr.fx (k02.wide (by omega) (by omega))
  have hO2 : cOb t2 (R + 3) (oP g 0 (x - 1) 0) := hO.kf k02 (by omega) hV.2.2.1
  have RO2 : rO s t2 R B g n 0 (x - 1) 0 := ⟨H2, hr2, hO2, hV⟩
  have hNm2 : cNm t2 (R + 617) (dN g (yNm g x) M) := hNm.keep fun c a i a0 a1 => k2.F (by omega) i
  simp only [eu_X21_readSymbol_309, du_X21_readSymbol_309]
  rw [c_ram RO2 C hP x0 x1 c25 c23.1 f1 f2 f3 f4 (K := fun u v => u_X21_readSymbol_311 u R (ySy g x) v), eu_X21_readSymbol_311]; unfold du_X21_readSymbol_311
  have am : yAm g x = 0 ∨ yAm g x = 4 ∨ yAm g x = 8 ∨ yAm g x = 12 := by
    unfold yAm
    repeat' split
    all_goals simp
  have e322 : ∀ y0, u_X21_readSymbol_322 t2 R (ySy g x) (yAm g x / 4) y0 R = u_X21_readSymbol_353 t2 R (ySy g x) (if yAm g x = 0 then ySy g x + 12 else ySy g x + yAm g x) 26 y0 R := fun y0 => by
    rw [eu_X21_readSymbol_322]; unfold du_X21_readSymbol_322
    rw [W32_in (z := ySy g x + 4) (by omega) (by omega), W32_in (z := ySy g x + 8) (by omega) (by omega), W32_in (z := ySy g x + 12) (by omega) (by omega)]
    rcases am with c | c | c | c <;> rw [c]
    · rw [if_neg (by decide), if_neg (by decide), if_pos rfl]
    · rw [if_pos (by decide), if_neg (by decide)]
    · rw [if_neg (by decide), if_pos (by decide), if_neg (by decide)]
    · rw [if_neg (by decide), if_neg (by decide), if_neg (by decide)]
  rw [e322, e322]
  -- the last two
  have fin : yAm g x = 0 → jE (if jf t2 20 (R + 616) 4 = 0 then u_X21_readSymbol_391 t2 R (ySy g x) R else (m_X14_isTaken t2 (R + 3) ((R + 616) + 1) (jf t2 18 (R + 3) 4)).bind fun v2 => if v2 = 0 then u_X21_readSymbol_391 t2 R (ySy g x) R else u_X21_readSymbol_396 t2 R (ySy g x) 0 R) (ckR (cOK fun t => rO s t R B g n 0 x 0) (cBD s R) [(yHw g x = 0 ∨ ∀ y, 1 ≤ y → y < x → ¬ yHw g y = 0 → ¬ yEq g (yNm g y) (yNm g x), 27, ySy g x)]) := by
    intro c26
    have hsy := ySw_ok hP x0 x1 c22.2 c23 c25 c26
    have hrow := ySw_nm (x := x) hM
    have vd : vNm (dN g (yNm g x) M) := hsy.2.2.2.2.2.2.2.2.2.1.row fun k k0 => (hrow k k0).symm
    have tD2 : jTt t2 36 (R + 616) := tD.ext H2.1.1.2
    obtain ⟨-, -, -, tN⟩ := T36 tD2
    have hc2 : jf t2 18 (R + 3) 4 = x - 1 := hO2.2.2.2.1.2.1
    have e391 : u_X21_readSymbol_391 t2 R (ySy g x) R = u_X21_readSymbol_396 t2 R (ySy g x) 1 R := by rw [eu_X21_readSymbol_391]; rfl
    obtain ⟨r, er, r01, ri⟩ := c_taken (n := x - 1) hO2 hV (show cNm t2 (R + 616 + 1) (dN g (yNm g x) M) by rw [show R + 616 + 1 = R + 617 by omega]; exact hNm2) tN (by omega) (by rw [oP_21]; omega)
    have ri' : r = 0 ↔ ∀ y, 1 ≤ y → y < x → ¬ yHw g y = 0 → ¬ yEq g (yNm g y) (yNm g x) := by
      have key : isTk (oP g 0 (x - 1) 0) (dN g (yNm g x) M) (x - 1) ↔ ∃ y, 1 ≤ y ∧ y < x ∧ ¬ yHw g y = 0 ∧ yEq g (yNm g y) (yNm g x) := by
        have nm : ∀ y, 1 ≤ y → y < x → ∃ K, nmLe g (yNm g y) K := fun y y0 y1 => by
          have := hG y y0 y1
          unfold Lsym at this
          obtain ⟨K, hK, -⟩ := (Gd_cons.mp this).1.2
          exact ⟨K, hK⟩
        constructor
        · rintro ⟨k, k0, k1, k2, k3⟩
          obtain ⟨K, hK⟩ := nm (k + 1) (by omega) (by omega)
          refine ⟨k + 1, by omega, by omega, k2, (yEq_i hK hM).mpr ?_⟩
          have hrow' := ySw_nm (x := k + 1) hK
          refine ⟨by rw [← hrow' 5 (by omega)]; exact k3.1, fun i i0 i1 => ?_⟩
          rw [← hrow' 5 (by omega)] at i1
          rw [← hrow' _ (by omega)]; exact k3.2 i i0 i1
        · rintro ⟨y, y0, y1, y2, y3⟩
          obtain ⟨K, hK⟩ := nm y y0 y1
          have h3 := (yEq_i hK hM).mp y3
          have hrow' := ySw_nm (x := y) hK
          refine ⟨y - 1, by omega, by omega, ?_, ?_⟩
          · rw [oP_4, Int.sub_add_cancel]; exact y2
          · rw [oP_4, Int.sub_add_cancel]
            refine ⟨by rw [hrow' 5 (by omega)]; exact h3.1, fun i i0 i1 => ?_⟩
            rw [hrow' 5 (by omega)] at i1
            rw [hrow' _ (by omega)]; exact h3.2 i i0 i1
      constructor
      · intro z y y0 y1 y2 y3
        have := ri.mpr (key.mpr ⟨y, y0, y1, y2, y3⟩)
        omega
      · intro z
        rcases r01 with q | q
        · exact q
        · obtain ⟨y, y0, y1, y2, y3⟩ := key.mp (ri.mp q)
          exact absurd y3 (z y y0 y1 y2)
    have e27 : (if jf t2 20 (R + 616) 4 = 0 then u_X21_readSymbol_391 t2 R (ySy g x) R else (m_X14_isTaken t2 (R + 3) ((R + 616) + 1) (jf t2 18 (R + 3) 4)).bind fun v2 => if v2 = 0 then u_X21_readSymbol_391 t2 R (ySy g x) R else u_X21_readSymbol_396 t2 R (ySy g x) 0 R) = if yHw g x = 0 ∨ r = 0 then u_X21_readSymbol_396 t2 R (ySy g x) 1 R else u_X21_readSymbol_396 t2 R (ySy g x) 0 R := by
      rw [f4, hc2, er, e391, Option.bind_some]
      by_cases c1 : yHw g x = 0 <;> by_cases c2 : r = 0 <;> simp only [c1, c2, eq_self, and_false, false_and, and_true, true_and, if_true, if_false, reduceIte, Int.reduceEq, Int.reduceLT, Int.reduceLE, Int.reduceNeg, not_false_eq_true, Option.bind_some, jls, or_true, true_or, or_self, or_false, false_or]
    rw [e27]
    refine nd_if C H2.1.1 (by rw [eu_X21_readSymbol_396]; rfl) (by rw [eu_X21_readSymbol_396]; rfl) (or_congr Iff.rfl ri') (fun q hq => hq.end) fun c27 => jk_end ?_
    dsimp only
    rw [hc2, jix_in (by omega) (by omega), Option.bind_some]
    have hdr : cSy t2 (R + 616) (ySw g x) := ⟨f1, f2, f3, f4, f5, by rw [show R + 616 + 1 = R + 617 by omega]; exact hNm2.row hrow⟩
    refine jS_call (c_syset (y := R + 3 + 3 + 10 + 3 * (x - 1)) hdr hsy.2.2.2.2.2.2.2.2.2.1 tD2 (by omega)) fun q ⟨q1, q2⟩ => ?_
    rw [q1.F (by omega), hc2, W32_in (by omega) (by omega)]
    have e1 : oP g 0 (x - 1) 0 2 1 0 = x - 1 := rfl
    obtain ⟨w1, w2⟩ := c_syadd (w := ySw g x) hO2 hV.2.2.1 (by rw [e1]; omega) (by rw [e1]; exact q1) (by rw [e1]; exact q2)
    have eS : oSym (oP g 0 (x - 1) 0) (ySw g x) = oP g 0 x 0 := by
      have := oP_sym (g := g) (st := 0) (sy := x - 1) (rl := 0)
      rw [Int.sub_add_cancel] at this
      exact this
    have vS := vSym hV (by rw [e1]; omega) hsy
    rw [eS] at w2 vS
    rw [e1] at w1 w2
    exact jS_end ⟨rfl, H2.fx (w1.sub (by omega) (by omega)), hr2.fx (w1.wide (by omega) (by omega)), w2, vS⟩
  by_cases c26 : yAm g x = 0
  · rw [if_pos (by omega), c26, if_pos rfl, eu_X21_readSymbol_353]; unfold du_X21_readSymbol_353
    rw [need_ok (by decide), Option.bind_some]
    exact jk_ok rfl (fin c26)
  · rw [if_neg (by omega), if_neg c26, eu_X21_readSymbol_353]; unfold du_X21_readSymbol_353
    exact nd_x C H2.1.1 (.inl rfl) ⟨fun z => absurd z (by decide), fun z => absurd z c26⟩ (fun q hq => hq.end) fun z => absurd z c26
end jCread7
