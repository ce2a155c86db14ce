/-! the component's names of kinds *-/
section jCnam
variable {s t u : jS} {A H b lo W x y k c a hh : Int} {n : Nat} {l nm : List Int} {NL : List (List Int)} {I : pI} {OL : List pvO} {SL : List pvS}
def j64 (x : Int) : Prop := -9223372036854775808 ≤ x ∧ x ≤ 9223372036854775807
theorem nB_hi {i : Nat} (hx : j64 x) (hy : j64 y) (h : i < 16) : (if (i : Int) < 8 then L2i (L_and (L_shr x (W32 (56 - W32 (8 * I_and i 7)))) 255) else L2i (L_and (L_shr y (W32 (56 - W32 (8 * I_and i 7)))) 255)) = nB x y i := by
  have e7 : I_and (i : Int) 7 = (i : Int) % 8 := I_and_m _ 3 (by decide)
  rw [e7]
  unfold nB
  by_cases c : i < 8
  · rw [if_pos (by omega), if_pos c, show (i : Int) % 8 = i by omega, bE_t hx (by omega) (by omega)]
  · rw [if_neg (by omega), if_neg c, show (i : Int) % 8 = ((i - 8 : Nat) : Int) by omega, bE_t hy (by omega) (by omega)]
theorem nB_in : 0 ≤ nB x y n ∧ nB x y n < 256 := by
  unfold nB; split
  · exact bE_lo
  · exact bE_lo
theorem c_isN (h : pSg s a nm) (hl : (nm.length : Int) ≤ 1000000) (hx : j64 x) (hy : j64 y) : ∀ (m i p : Nat), i + m = 16 → p ≤ nm.length → u_X2_isName_9 s a x y p 1 i = some (if nm.drop p = nzS (nB x y) m i then 1 else 0)
  | 0, i, p, hi, hp => by
    rw [eu_X2_isName_9]; unfold du_X2_isName_9
    refine jlpR_r ?_
    show b_X2_isName_9 s a x y p 1 i = _
    unfold b_X2_isName_9
    rw [if_neg (by omega), eu_X2_isName_96]; unfold du_X2_isName_96
    rw [if_neg (show ¬ (1 : Int) = 0 by decide), s_len h hl, Option.bind_some]
    by_cases c : p = nm.length
    · rw [if_pos (show (p : Int) = nm.length by omega), if_pos (show nm.drop p = nzS (nB x y) 0 i by show nm.drop p = []; rw [List.drop_eq_nil_iff]; omega), Wz_1]
    · rw [if_neg (show ¬ (p : Int) = nm.length by omega), if_neg (show ¬ nm.drop p = nzS (nB x y) 0 i by show ¬ nm.drop p = []; rw [List.drop_eq_nil_iff]; omega), Wz_0]
  | m + 1, i, p, hi, hp => by
    have q0 : ∀ p' : Int, u_X2_isName_9 s a x y p' 0 (i + 1) = some 0 := fun p' => by
      rw [eu_X2_isName_9]; unfold du_X2_isName_9
      refine jlpR_r ?_
      show b_X2_isName_9 s a x y p' 0 (i + 1) = _
      unfold b_X2_isName_9
      have e96 : u_X2_isName_96 s a p' 0 = some 0 := by
        rw [eu_X2_isName_96]; unfold du_X2_isName_96
        rw [if_pos rfl, Wz_0]
      by_cases c : (i : Int) + 1 < 16
      · rw [if_pos c, if_pos rfl, e96]
      · rw [if_neg c, e96]
    have e33 : (if (i : Int) < 8 then u_X2_isName_33 s a x y p 1 i x else u_X2_isName_33 s a x y p 1 i y) = (if nB x y i = 0 then some (.inl [a, x, y, (p : Int), 1, (i : Int) + 1]) else if (p : Int) < nm.length then if nm.getD p 0 = nB x y i then some (.inl [a, x, y, (p : Int) + 1, 1, (i : Int) + 1]) else some (.inl [a, x, y, (p : Int) + 1, 0, (i : Int) + 1]) else some (.inl [a, x, y, (p : Int) + 1, 0, (i : Int) + 1])) := by
      have key : ∀ z, L2i (L_and (L_shr z (W32 (56 - W32 (8 * I_and i 7)))) 255) = nB x y i → u_X2_isName_33 s a x y p 1 i z = (if nB x y i = 0 then some (.inl [a, x, y, (p : Int), 1, (i : Int) + 1]) else if (p : Int) < nm.length then if nm.getD p 0 = nB x y i then some (.inl [a, x, y, (p : Int) + 1, 1, (i : Int) + 1]) else some (.inl [a, x, y, (p : Int) + 1, 0, (i : Int) + 1]) else some (.inl [a, x, y, (p : Int) + 1, 0, (i : Int) + 1])) := fun z hz => by
        rw [eu_X2_isName_33]; unfold du_X2_isName_33
        simp only [jlet]
        rw [hz, eu_X2_isName_90]; unfold du_X2_isName_90
        rw [W32_in (z := (i : Int) + 1) (by omega) (by omega)]
        by_cases c0 : nB x y i = 0
        · rw [if_pos c0, if_pos c0]
        rw [if_neg c0, if_neg c0, s_len h hl, Option.bind_some]
        have e84 : u_X2_isName_84 s a x y p i = some (.inl [a, x, y, (p : Int) + 1, 0, (i : Int) + 1]) := by
          rw [eu_X2_isName_84]; unfold du_X2_isName_84
          rw [eu_X2_isName_85]; unfold du_X2_isName_85
          rw [eu_X2_isName_90]; unfold du_X2_isName_90
          rw [W32_in (z := (p : Int) + 1) (by omega) (by omega), W32_in (by omega) (by omega)]
        by_cases c1 : (p : Int) < nm.length
        · rw [if_pos c1, if_pos c1, s_charAt h (by omega) c1, Option.bind_some, Int.toNat_natCast]
          by_cases c2 : nm.getD p 0 = nB x y i
          · rw [if_pos c2, if_pos c2, eu_X2_isName_85]; unfold du_X2_isName_85
            rw [eu_X2_isName_90]; unfold du_X2_isName_90
            rw [W32_in (z := (p : Int) + 1) (by omega) (by omega), W32_in (by omega) (by omega)]
          · rw [if_neg c2, if_neg c2, e84]
        · rw [if_neg c1, if_neg c1, e84]
      have hn := nB_hi (i := i) hx hy (by omega)
      by_cases c : (i : Int) < 8
      · rw [if_pos c] at hn; rw [if_pos c]; exact key x hn
      · rw [if_neg c] at hn; rw [if_neg c]; exact key y hn
    have bb : jc6 b_X2_isName_9 [a, x, y, (p : Int), 1, (i : Int)] s = (if (i : Int) < 8 then u_X2_isName_33 s a x y p 1 i x else u_X2_isName_33 s a x y p 1 i y) := by
      show b_X2_isName_9 s a x y p 1 i = _
      unfold b_X2_isName_9
      rw [if_pos (by omega), if_neg (show ¬ (1 : Int) = 0 by decide)]
    rw [e33] at bb
    rw [eu_X2_isName_9]; unfold du_X2_isName_9
    have hz : nzS (nB x y) (m + 1) i = if nB x y i = 0 then nzS (nB x y) m (i + 1) else nB x y i :: nzS (nB x y) m (i + 1) := rfl
    rw [hz]
    have back : ∀ (p' : Int) (d : Int), jlpR (jc6 b_X2_isName_9) [a, x, y, p', d, (i : Int) + 1] s = u_X2_isName_9 s a x y p' d (i + 1) := fun p' d => by rw [eu_X2_isName_9]; rfl
    by_cases c0 : nB x y i = 0
    · rw [if_pos c0] at bb
      rw [jlpR_l bb, if_pos c0, back]
      have := c_isN h hl hx hy m (i + 1) p (by omega) hp
      rw [show ((i + 1 : Nat) : Int) = (i : Int) + 1 by omega] at this
      exact this
    rw [if_neg c0] at bb
    rw [if_neg c0]
    by_cases c1 : (p : Int) < nm.length
    rotate_left
    · rw [if_neg c1] at bb
      rw [jlpR_l bb, back, q0, if_neg]
      rw [List.drop_eq_nil_of_le (by omega)]; simp
    have c1' : p < nm.length := by omega
    have hd : nm.drop p = nm.getD p 0 :: nm.drop (p + 1) := by rw [List.drop_eq_getElem_cons c1', List.getD_eq_getElem?_getD, List.getElem?_eq_getElem c1']; rfl
    rw [if_pos c1] at bb
    by_cases c2 : nm.getD p 0 = nB x y i
    · rw [if_pos c2] at bb
      rw [jlpR_l bb, back, hd, c2]
      have := c_isN h hl hx hy m (i + 1) (p + 1) (by omega) (by omega)
      rw [show ((i + 1 : Nat) : Int) = (i : Int) + 1 by omega, show ((p + 1 : Nat) : Int) = (p : Int) + 1 by omega] at this
      rw [this]
      by_cases ce : nm.drop (p + 1) = nzS (nB x y) m (i + 1)
      · rw [if_pos ce, if_pos (by rw [ce])]
      · rw [if_neg ce, if_neg fun z => ce (List.cons.inj z).2]
    · rw [if_neg c2] at bb
      rw [jlpR_l bb, back, q0, if_neg]
      rw [hd]
      exact fun z => c2 (List.cons.inj z).1
theorem c_isName (h : pSg s a nm) (hl : (nm.length : Int) ≤ 1000000) (hx : j64 x) (hy : j64 y) : m_X2_isName s a x y = some (if nm = nzS (nB x y) 16 0 then 1 else 0) := by
  rw [em_X2_isName]; unfold dm_X2_isName
  have := c_isN h hl hx hy 16 0 0 (by omega) (by omega)
  rw [List.drop_zero] at this
  exact this
/-- the first of n constants from lo that a name is -/
def isIx (lo n : Nat) (l : List Int) (r : Int) : Prop := (∃ i : Nat, r = i ∧ i < n ∧ l = cS (lo + i) ∧ ∀ j, j < i → ¬ l = cS (lo + j)) ∨ (r = -1 ∧ ∀ i, i < n → ¬ l = cS (lo + i))
theorem c_nam (h : pWd s W) (hW : pWl s W hh) (hc : pCon s) (hx : j64 x) (hy : j64 y) (hn : nzS (nB x y) 16 0 = l) : ∀ (m i : Nat), i + m = 75 → (∀ j, j < i → ¬ l = cS (73 + j)) → ∃ r, u_X2_named_3 s W x y i = some r ∧ isIx 73 75 l r
  | 0, i, hi, hj => by
    refine ⟨-1, ?_, .inr ⟨rfl, fun j hj' => hj j (by omega)⟩⟩
    rw [eu_X2_named_3]; unfold du_X2_named_3
    refine jlpR_r ?_
    show b_X2_named_3 s W x y i = _
    unfold b_X2_named_3
    rw [if_neg (by omega)]
  | m + 1, i, hi, hj => by
    obtain ⟨e1, e2⟩ := h.1.at (i := (i : Int)) (by omega) (by omega)
    have w2 := hW.2.2.2.2 i (by omega)
    have hcs := (hc.1 (73 + i) (by omega)).1
    have len : ((cS (73 + i)).length : Int) ≤ 1000000 := by
      have : ∀ k, k < 75 → (cS (73 + k)).length ≤ 16 := by decide +kernel
      have := this i (by omega)
      omega
    have isn := c_isName hcs len hx hy
    rw [hn] at isn
    have nm : jrd s 11 (jf s 1008 (W + 23) i) 0 = some (jc s (73 + i : Nat)) := by
      have k11 : jK s (jf s 1008 (W + 23) i) = 11 := e2.1.2.2.1
      rw [jrd_in e2.1.1 k11, ← w2.2.1]
    have bb : jc4 b_X2_named_3 [W, x, y, (i : Int)] s = if cS (73 + i) = l then jinr (some (i : Int)) else some (.inl [W, x, y, (i : Int) + 1]) := by
      show b_X2_named_3 s W x y i = _
      unfold b_X2_named_3
      rw [if_pos (by omega), e1, Option.bind_some, nm, Option.bind_some, isn, Option.bind_some, W32_in (by omega) (by omega)]
      by_cases c : cS (73 + i) = l
      · rw [if_pos c, if_pos c, if_neg (show ¬ (1 : Int) = 0 by decide)]
      · rw [if_neg c, if_neg c, if_pos rfl]
    by_cases c : cS (73 + i) = l
    · rw [if_pos c] at bb
      refine ⟨i, ?_, .inl ⟨i, rfl, by omega, c.symm, hj⟩⟩
      rw [eu_X2_named_3]; unfold du_X2_named_3
      exact jlpR_r bb
    · rw [if_neg c] at bb
      obtain ⟨r, r1, r2⟩ := c_nam h hW hc hx hy hn m (i + 1) (by omega) fun j hj' => by
        by_cases cj : j = i
        · subst cj; exact fun z => c z.symm
        · exact hj j (by omega)
      refine ⟨r, ?_, r2⟩
      rw [eu_X2_named_3] at r1 ⊢; unfold du_X2_named_3 at r1 ⊢
      rw [jlpR_l bb]
      rw [show ((i + 1 : Nat) : Int) = (i : Int) + 1 by omega] at r1
      exact r1
/-- a name's letters packed high -/
def pkH (l : List Int) : Int := pk (l.take 8) * 256 ^ (8 - (l.take 8).length)
def pkH2 (l : List Int) : Int := pk (l.drop 8) * 256 ^ (8 - (l.drop 8).length)
theorem pw_256 (n : Nat) : (256 : Int) ^ n = 2 ^ (8 * n) := by rw [show (256 : Int) = 2 ^ 8 from rfl, ← Int.pow_mul]
/-- one letter more -/
theorem or_let {P : List Int} (hP : pkB P) {j : Nat} (hj : P.length = j) (j8 : j < 8) (c0 : 0 ≤ c) (c1 : c < 128) : L_or (pk P * 256 ^ (8 - j)) (L_shl c (56 - 8 * (j : Int))) = pk (P ++ [c]) * 256 ^ (8 - (j + 1)) ∧ j64 (pk (P ++ [c]) * 256 ^ (8 - (j + 1))) := by
  have B := hP.app c0 c1
  have e8 : (256 : Int) ^ (8 - j) = 256 * 256 ^ (8 - (j + 1)) := by rw [show 8 - j = (8 - (j + 1)) + 1 by omega, Int.pow_succ, Int.mul_comm]
  have sh : L_shl c (56 - 8 * (j : Int)) = W64 (c * 256 ^ (8 - (j + 1))) := by
    rw [l_shl_p (by omega) (by omega), pw_256, show (56 - 8 * (j : Int)).toNat = 8 * (8 - (j + 1)) by omega]
  obtain ⟨b0, b1⟩ := B
  rw [List.length_append, hj] at b1
  have b2 : pk (P ++ [c]) < 128 * 256 ^ j := by
    rcases b1 with b | ⟨n, n1, n2⟩
    · rw [b]
      have : (1 : Int) ≤ 256 ^ j := Int.pow_pos (by decide)
      omega
    · have : n = j := by have : j + 1 = n + 1 := n1; omega
      subst this; exact n2
  have q : (256 : Int) ^ j * 256 ^ (8 - (j + 1)) = 72057594037927936 := by rw [← Int.pow_add, show j + (8 - (j + 1)) = 7 by omega]; rfl
  have q0 : (1 : Int) ≤ 256 ^ (8 - (j + 1)) := Int.pow_pos (by decide)
  have up : pk (P ++ [c]) * 256 ^ (8 - (j + 1)) < 9223372036854775808 := by
    have := Int.mul_lt_mul_of_pos_right b2 (show (0 : Int) < 256 ^ (8 - (j + 1)) by omega)
    rw [Int.mul_assoc, q] at this
    omega
  have lo0 : 0 ≤ pk (P ++ [c]) * 256 ^ (8 - (j + 1)) := Int.mul_nonneg b0 (by omega)
  have ex : pk P * 256 ^ (8 - j) + c * 256 ^ (8 - (j + 1)) = pk (P ++ [c]) * 256 ^ (8 - (j + 1)) := by
    rw [pk_app, e8, Int.add_mul, ← Int.mul_assoc, Int.mul_comm (pk P) 256]
  have p0 : 0 ≤ pk P * 256 ^ (8 - j) := Int.mul_nonneg hP.1 (by have : (1 : Int) ≤ 256 ^ (8 - j) := Int.pow_pos (by decide); omega)
  have c2 : 0 ≤ c * 256 ^ (8 - (j + 1)) := Int.mul_nonneg c0 (by omega)
  have c3 : c * 256 ^ (8 - (j + 1)) < 256 ^ (8 - j) := by
    rw [e8]
    exact Int.mul_lt_mul_of_pos_right (by omega) (by omega)
  rw [sh, W64_in (by omega) (by omega), L_or_hi (8 * (8 - j)) (by omega) (by rw [← pw_256]; exact Int.mul_emod_left _ _) c2 (by rw [← pw_256]; exact c3), ex, W64_in (by omega) (by omega)]
  exact ⟨rfl, by omega, by omega⟩
theorem pkB_rev : ∀ m : List Int, (∀ c ∈ m, 1 ≤ c ∧ c < 128) → pkB m.reverse
  | [], _ => pkB.nil
  | c :: m, h => by
    have hc := h c List.mem_cons_self
    rw [List.reverse_cons]
    exact (pkB_rev m fun e he => h e (List.mem_cons_of_mem _ he)).app (by omega) hc.2
theorem pkB_of (h : ∀ c ∈ l, 1 ≤ c ∧ c < 128) : pkB l := by
  have := pkB_rev l.reverse fun c hc => h c (List.mem_reverse.mp hc)
  rw [List.reverse_reverse] at this
  exact this
theorem take_1 {i : Nat} (h : i < l.length) : l.take (i + 1) = l.take i ++ [l.getD i 0] := by
  rw [List.take_succ_eq_append_getElem h, List.getD_eq_getElem?_getD, List.getElem?_eq_getElem h]; rfl
theorem pkH_s (h : lts l) {i : Nat} (hi : i < l.length) (h8 : i < 8) : L_or (pkH (l.take i)) (L_shl (l.getD i 0) (56 - 8 * (i : Int))) = pkH (l.take (i + 1)) ∧ pkH2 (l.take (i + 1)) = pkH2 (l.take i) ∧ j64 (pkH (l.take (i + 1))) := by
  have hc := h.2 (l.getD i 0) (by rw [List.getD_eq_getElem?_getD, List.getElem?_eq_getElem hi]; exact List.getElem_mem _)
  have hP : ∀ c ∈ l.take i, 1 ≤ c ∧ c < 128 := fun c hc => h.2 c (List.mem_of_mem_take hc)
  have li : (l.take i).length = i := by rw [List.length_take]; omega
  have li1 : (l.take (i + 1)).length = i + 1 := by rw [List.length_take]; omega
  have t1 : (l.take i).take 8 = l.take i := List.take_of_length_le (by omega)
  have t2 : (l.take (i + 1)).take 8 = l.take (i + 1) := List.take_of_length_le (by omega)
  have d1 : (l.take i).drop 8 = [] := List.drop_eq_nil_of_le (by omega)
  have d2 : (l.take (i + 1)).drop 8 = [] := List.drop_eq_nil_of_le (by omega)
  unfold pkH pkH2
  rw [t1, t2, d1, d2, li, li1]
  obtain ⟨o1, o2⟩ := or_let (c := l.getD i 0) (pkB_of hP) li h8 (by omega) hc.2
  rw [← take_1 hi] at o1 o2
  exact ⟨o1, rfl, o2⟩
theorem pkH_t (h : lts l) {i : Nat} (hi : i < l.length) (h8 : 8 ≤ i) : L_or (pkH2 (l.take i)) (L_shl (l.getD i 0) (120 - 8 * (i : Int))) = pkH2 (l.take (i + 1)) ∧ pkH (l.take (i + 1)) = pkH (l.take i) ∧ j64 (pkH2 (l.take (i + 1))) := by
  have hl := h.1
  have hc := h.2 (l.getD i 0) (by rw [List.getD_eq_getElem?_getD, List.getElem?_eq_getElem hi]; exact List.getElem_mem _)
  have hP : ∀ c ∈ (l.take i).drop 8, 1 ≤ c ∧ c < 128 := fun c hc => h.2 c (List.mem_of_mem_take (List.mem_of_mem_drop hc))
  have li : ((l.take i).drop 8).length = i - 8 := by rw [List.length_drop, List.length_take]; omega
  have li1 : ((l.take (i + 1)).drop 8).length = i - 8 + 1 := by rw [List.length_drop, List.length_take]; omega
  have t1 : (l.take (i + 1)).take 8 = (l.take i).take 8 := by rw [List.take_take, List.take_take]; congr 1; omega
  have d1 : (l.take (i + 1)).drop 8 = (l.take i).drop 8 ++ [l.getD i 0] := by
    rw [take_1 hi, List.drop_append_of_le_length (by rw [List.length_take]; omega)]
  unfold pkH pkH2
  obtain ⟨o1, o2⟩ := or_let (c := l.getD i 0) (pkB_of hP) li (by omega) (by omega) hc.2
  rw [← d1] at o1 o2
  rw [t1, li, li1]
  rw [show 56 - 8 * ((i - 8 : Nat) : Int) = 120 - 8 * (i : Int) by omega] at o1
  exact ⟨o1, rfl, o2⟩
/-- the component's kind of a name -/
theorem c_kindL (hB : cBk s (A + (-3890)) b lo NL I OL SL) (k0 : 0 ≤ k) (k1 : k < NL.length) (hl : tNa NL k = l) (h : lts l) (hw : pWd s (A + (-4147))) (hW : pWl s (A + (-4147)) hh) (hc : pCon s) : ∀ (m i : Nat), i + m = l.length → j64 (pkH (l.take i)) → j64 (pkH2 (l.take i)) → ∃ r, u_X33_kindOf_8 s A k (pkH (l.take i)) (pkH2 (l.take i)) i = some r ∧ isIx 73 75 l r
  | 0, i, hi, g1, g2 => by
    have hi' : l.take i = l := List.take_of_length_le (by omega)
    rw [hi'] at g1 g2 ⊢
    obtain ⟨r, r1, r2⟩ := c_nam hw hW hc g1 g2 (nz_hi h) 75 0 (by omega) (fun j hj => by omega)
    refine ⟨r, ?_, r2⟩
    rw [eu_X33_kindOf_8]; unfold du_X33_kindOf_8
    refine jlpR_r (r := some r) ?_
    show b_X33_kindOf_8 s A k (pkH l) (pkH2 l) i = _
    unfold b_X33_kindOf_8
    have nq : m_X11_name s (A + (-3890)) k i = some (-1) := by
      rw [c_name hB k0 k1 (by omega), hl]
      unfold nmQ
      rw [if_neg (by omega)]
    rw [nq, Option.bind_some, if_pos rfl, eu_X33_kindOf_86]; unfold du_X33_kindOf_86
    rw [em_X2_named]; unfold dm_X2_named
    have r1' : u_X2_named_3 s (A + (-4147)) (pkH l) (pkH2 l) 0 = some r := r1
    rw [r1', Option.bind_some]
  | m + 1, i, hi, g1, g2 => by
    have hlt : i < l.length := by omega
    have hl16 := h.1
    have hc' := h.2 (l.getD i 0) (by rw [List.getD_eq_getElem?_getD, List.getElem?_eq_getElem hlt]; exact List.getElem_mem _)
    have nq : m_X11_name s (A + (-3890)) k i = some (l.getD i 0) := by
      rw [c_name hB k0 k1 (by omega), hl]
      unfold nmQ
      rw [if_pos (by omega), Int.toNat_natCast]
    by_cases c8 : i < 8
    · obtain ⟨o1, o2, o3⟩ := pkH_s h hlt c8
      obtain ⟨r, r1, r2⟩ := c_kindL hB k0 k1 hl h hw hW hc m (i + 1) (by omega) o3 (by rw [o2]; exact g2)
      refine ⟨r, ?_, r2⟩
      rw [eu_X33_kindOf_8] at r1 ⊢; unfold du_X33_kindOf_8 at r1 ⊢
      have bb : jc5 b_X33_kindOf_8 [A, k, pkH (l.take i), pkH2 (l.take i), (i : Int)] s = some (.inl [A, k, pkH (l.take (i + 1)), pkH2 (l.take (i + 1)), ((i + 1 : Nat) : Int)]) := by
        show b_X33_kindOf_8 s A k (pkH (l.take i)) (pkH2 (l.take i)) i = _
        unfold b_X33_kindOf_8
        rw [nq, Option.bind_some, if_neg (by omega), if_pos (by omega), Option.bind_some, W32_in (z := 8 * (i : Int)) (by omega) (by omega), W32_in (z := 56 - 8 * (i : Int)) (by omega) (by omega)]
        simp only [jlet]
        rw [o1, o2, eu_X33_kindOf_80]; unfold du_X33_kindOf_80
        rw [W32_in (by omega) (by omega)]; rfl
      rw [jlpR_l bb]; exact r1
    · obtain ⟨o1, o2, o3⟩ := pkH_t h hlt (by omega)
      obtain ⟨r, r1, r2⟩ := c_kindL hB k0 k1 hl h hw hW hc m (i + 1) (by omega) (by rw [o2]; exact g1) o3
      refine ⟨r, ?_, r2⟩
      rw [eu_X33_kindOf_8] at r1 ⊢; unfold du_X33_kindOf_8 at r1 ⊢
      have bb : jc5 b_X33_kindOf_8 [A, k, pkH (l.take i), pkH2 (l.take i), (i : Int)] s = some (.inl [A, k, pkH (l.take (i + 1)), pkH2 (l.take (i + 1)), ((i + 1 : Nat) : Int)]) := by
        show b_X33_kindOf_8 s A k (pkH (l.take i)) (pkH2 (l.take i)) i = _
        unfold b_X33_kindOf_8
        rw [nq, Option.bind_some, if_neg (by omega), if_neg (by omega), Option.bind_some, W32_in (z := 8 * (i : Int)) (by omega) (by omega), W32_in (z := 120 - 8 * (i : Int)) (by omega) (by omega)]
        simp only [jlet]
        rw [o1, o2, eu_X33_kindOf_80]; unfold du_X33_kindOf_80
        rw [W32_in (by omega) (by omega)]; rfl
      rw [jlpR_l bb]; exact r1
theorem c_kindOf (hB : cBk s (A + (-3890)) b lo NL I OL SL) (k0 : 0 ≤ k) (k1 : k < NL.length) (hl : tNa NL k = l) (h : lts l) (hw : pWd s (A + (-4147))) (hW : pWl s (A + (-4147)) hh) (hc : pCon s) : ∃ r, m_X33_kindOf s A k = some r ∧ isIx 73 75 l r := by
  rw [em_X33_kindOf]; unfold dm_X33_kindOf
  have e1 : pkH (l.take 0) = 0 := by
    unfold pkH
    rw [List.take_zero, List.take_nil, show pk [] = 0 from rfl, Int.zero_mul]
  have e2 : pkH2 (l.take 0) = 0 := by
    unfold pkH2
    rw [List.take_zero, List.drop_nil, show pk [] = 0 from rfl, Int.zero_mul]
  have := c_kindL hB k0 k1 hl h hw hW hc l.length 0 (by omega) (by rw [e1]; unfold j64; omega) (by rw [e2]; unfold j64; omega)
  rw [e1, e2] at this
  exact this
end jCnam
