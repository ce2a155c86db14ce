/-! writing an image: the component's areas, the note, all of it -/
section jIwrite3
variable {s t u w : jS} {B N R n p f a b x y e k z v d lo m S O q : Int} {g g' : Int → Int} {i j : Int → Int → Int → Int}
theorem I_xor_jin (x y : Int) : jin (I_xor x y) := by
  rw [I_xor_eq, i_xor_bv]
  exact ⟨by have := BitVec.le_toInt (BitVec.ofInt 32 x ^^^ BitVec.ofInt 32 y); omega, by have := BitVec.toInt_lt (x := BitVec.ofInt 32 x ^^^ BitVec.ofInt 32 y); omega⟩
theorem aL_eq (st e : Int) (h : 0 < d) : aL e st d % d = st % d := by
  unfold aL
  have e1 := Int.mul_ediv_add_emod (st - e) d
  have e2 : st = (e + (st - e) % d) + d * ((st - e) / d) := by omega
  have e3 : st % d = ((e + (st - e) % d) + d * ((st - e) / d)) % d := congrArg (· % d) e2
  rw [Int.add_mul_emod_self_left] at e3
  exact e3.symm
theorem aL_ne {st : Int} (h : 0 < d) (k0 : e ≤ k) (k1 : k < aL e st d) : ¬ k % d = st % d := fun hk => by
  rw [← aL_eq st e h] at hk
  have l := aL_lo (p := e) (x := st) h
  have h0 := Int.emod_eq_emod_iff_emod_sub_eq_zero.mp hk.symm
  rw [Int.emod_eq_of_lt (by omega) (by omega)] at h0
  omega
theorem pIb.of (h : pIb i g x) (hs : 0 ≤ i 1 x 2) (hb : eI i x ≤ bI i x) (e : ∀ k, eI i x ≤ k → k < bI i x + i 1 x 2 → g' k = g k) : pIb i g' x := ⟨fun k k0 k1 => by rw [e k k0 (by omega)]; exact h.1 k k0 k1, fun k k0 k1 => by rw [e _ (by omega) (by omega)]; exact h.2 k k0 k1⟩
theorem pRw.at1 {a b c d e f h b' : Int} (r : pRw g p a b c d e f h) : pRw (gNb g (p + 4) 4 b') p a b' c d e f h := by
  obtain ⟨r1, r2, r3, r4, r5, r6, r7, r8⟩ := r
  exact ⟨r1.gn (by omega), gN_4, r3.gn (by omega), r4.gn (by omega), r5.gn (by omega), r6.gn (by omega), r7.gn (by omega), r8.gn (by omega)⟩
theorem rI_m (v : vIm i) (y0 : 0 ≤ y) (yx : y < x) (x1 : x ≤ 3) : rI i y + i 1 y 0 ≤ rI i x := by
  have a := (v.1 0 (by omega) (by omega)).1
  have b := (v.1 1 (by omega) (by omega)).1
  have c := (v.1 2 (by omega) (by omega)).1
  have : (y = 0 ∧ x = 1) ∨ (y = 0 ∧ x = 2) ∨ (y = 0 ∧ x = 3) ∨ (y = 1 ∧ x = 2) ∨ (y = 1 ∧ x = 3) ∨ (y = 2 ∧ x = 3) := by omega
  rcases this with ⟨e1, e2⟩ | ⟨e1, e2⟩ | ⟨e1, e2⟩ | ⟨e1, e2⟩ | ⟨e1, e2⟩ | ⟨e1, e2⟩ <;> subst e1 <;> subst e2
  · show 0 + i 1 0 0 ≤ i 1 0 0; omega
  · show 0 + i 1 0 0 ≤ i 1 0 0 + i 1 1 0; omega
  · show 0 + i 1 0 0 ≤ i 1 0 0 + i 1 1 0 + i 1 2 0; omega
  · exact Int.le_refl _
  · show i 1 0 0 + i 1 1 0 ≤ i 1 0 0 + i 1 1 0 + i 1 2 0; omega
  · exact Int.le_refl _
theorem eI_m (v : vIm i) (y0 : 0 ≤ y) (yx : y ≤ x) (x1 : x ≤ 3) : eI i y ≤ eI i x := by
  have a := (eI_lo v (x := 0) (by omega) (by omega)).2.2 (by omega)
  have b := (eI_lo v (x := 1) (by omega) (by omega)).2.2 (by omega)
  have c := (eI_lo v (x := 2) (by omega) (by omega)).2.2 (by omega)
  simp only [show (0 : Int) + 1 = 1 from rfl, show (1 : Int) + 1 = 2 from rfl, show (2 : Int) + 1 = 3 from rfl] at a b c
  have hy : y = 0 ∨ y = 1 ∨ y = 2 ∨ y = 3 := by omega
  have hx : x = 0 ∨ x = 1 ∨ x = 2 ∨ x = 3 := by omega
  rcases hy with e | e | e | e <;> rcases hx with e' | e' | e' | e' <;> subst e <;> subst e' <;> omega
/-- the note -/
theorem i_wnote (h : iV s R b i) (hz : iZ s u R g p) (hp : p ≤ 40000) (p0 : 0 ≤ p) (p4 : p % 4 = 0) : jE (m_X26_note u R b) fun q => ∃ g', iZ s q.1 R g' (p + nlI i) ∧ (∀ k, k < p → g' k = g k) ∧ B4 g' p 6 ∧ B4 g' (p + 4) (nlI i - 20) ∧ B4 g' (p + 8) 1 ∧ B4 g' (p + 12) 1802658125 ∧ B4 g' (p + 16) 115 ∧ B4 g' (p + 20) (i 1 0 2 / 2) ∧ B4 g' (p + 24) (sumI i) ∧ (∀ k, 0 ≤ k → k < mkN i → g' (p + 28 + k) = mkB (fun k => i 3 k 0) k) ∧ ∀ k, p + 28 + mkN i ≤ k → k < p + nlI i → g' k = 0 := by
  have J : ∀ {v : Int}, -2147483648 ≤ v → v ≤ 2147483647 → jin v := fun a b => ⟨a, b⟩
  have vi := h.2.2.2.2.1
  have cT := h.2.2.2.2.2.2
  have vv := (vi.1 0 (by omega) (by omega)).2 cT
  rw [em_X26_note]; unfold dm_X26_note
  refine jS_call (i_p4 hz.2 (by omega) (J (by omega) (by omega))) fun q1 ⟨k1, w1⟩ => ?_
  have S1 := hz.nx k1 w1
  have H1 := h.fx S1.1
  obtain ⟨n1, n2, n3⟩ := i_nsize H1
  rw [n1, Option.bind_some, W32_in (z := nlI i - 20) (by omega) (by omega)]
  refine jS_call (i_p4 S1.2 (by omega) (J (by omega) (by omega))) fun q2 ⟨k2, w2⟩ => ?_
  have S2 := S1.nx k2 w2
  refine jS_call (i_p4 S2.2 (by omega) (J (by omega) (by omega))) fun q3 ⟨k3, w3⟩ => ?_
  have S3 := S2.nx k3 w3
  refine jS_call (i_p4 S3.2 (by omega) (J (by omega) (by omega))) fun q4 ⟨k4, w4⟩ => ?_
  have S4 := S3.nx k4 w4
  refine jS_call (i_p4 S4.2 (by omega) (J (by omega) (by omega))) fun q5 ⟨k5, w5⟩ => ?_
  have S5 := S4.nx k5 w5
  have H5 := h.fx S5.1
  rw [jct_in H5.2.1, i_places H5.2.1 H5.2.2.1 vi, if_neg cT, Option.bind_some]
  refine jS_call (i_p4 S5.2 (by omega) (J (by omega) (by omega))) fun q6 ⟨k6, w6⟩ => ?_
  have S6 := S5.nx k6 w6
  have H6 := h.fx S6.1
  rw [jct_in H6.2.1]
  refine jS_call (i_sum H6.2.1 (T46 H6.1).2 H6.2.2.1 vi (by have := h.2.2.2.2.2.1; omega)) fun q7 ⟨z1, z2, z3⟩ => ?_
  have S7 : iZ s q7.1 R _ _ := ⟨S6.1.trans (z3.1.wide (by omega) (by omega)), S6.2.kf z3.1 (by omega)⟩
  have js : jin (sumI i) := by unfold sumI; exact I_xor_jin _ _
  rw [z1]
  refine jS_call (i_p4 S7.2 (by omega) js) fun q8 ⟨k8, w8⟩ => ?_
  have S8 := S7.nx k8 w8
  have G8 : ∃ g8, iZ s q8.1 R g8 (p + 28) ∧ (∀ k, k < p → g8 k = g k) ∧ B4 g8 p 6 ∧ B4 g8 (p + 4) (nlI i - 20) ∧ B4 g8 (p + 8) 1 ∧ B4 g8 (p + 12) 1802658125 ∧ B4 g8 (p + 16) 115 ∧ B4 g8 (p + 20) (i 1 0 2 / 2) ∧ B4 g8 (p + 24) (sumI i) := by
    rw [show p + 4 + 4 + 4 + 4 + 4 + 4 + 4 = p + 28 by omega] at S8
    refine ⟨_, S8, fun k hk => ?_, ?_, ?_, ?_, ?_, ?_, ?_, ?_⟩
    · rw [gN_lo (by omega), gN_lo (by omega), gN_lo (by omega), gN_lo (by omega), gN_lo (by omega), gN_lo (by omega), gN_lo (by omega)]
    · repeat (first | exact gN_4 | refine B4.gn ?_ (by omega))
    · repeat (first | exact gN_4 | refine B4.gn ?_ (by omega))
    · rw [show p + 8 = p + 4 + 4 by omega]; repeat (first | exact gN_4 | refine B4.gn ?_ (by omega))
    · rw [show p + 12 = p + 4 + 4 + 4 by omega]; repeat (first | exact gN_4 | refine B4.gn ?_ (by omega))
    · rw [show p + 16 = p + 4 + 4 + 4 + 4 by omega]; repeat (first | exact gN_4 | refine B4.gn ?_ (by omega))
    · rw [show p + 20 = p + 4 + 4 + 4 + 4 + 4 by omega]; repeat (first | exact gN_4 | refine B4.gn ?_ (by omega))
    · rw [show p + 24 = p + 4 + 4 + 4 + 4 + 4 + 4 by omega]; exact gN_4
  obtain ⟨g8, S8, e8, b1, b2, b3, b4, b5, b6, b7⟩ := G8
  have mN := (i_markBytes H1.2.1 H1.2.2.1 vi cT).2
  rw [eu_X26_note_78]; unfold du_X26_note_78
  refine jS_for (fun m t => ∃ g', iZ s t R g' (p + 28 + m) ∧ (∀ k, k < p + 28 → g' k = g8 k) ∧ ∀ k, 0 ≤ k → k < m → g' (p + 28 + k) = mkB (fun k => i 3 k 0) k) (fun m => [R, b, m]) 0 (mkN i) mN.1 ⟨g8, by rw [Int.add_zero]; exact S8, fun _ _ => rfl, fun k k0 k1 => by omega⟩ (fun m t m0 m1 ⟨g9, c1, c2, c3⟩ => ?_) (fun t ⟨g9, c1, c2, c3⟩ => ?_)
  · show jE (b_X26_note_78 t R b m) _
    unfold b_X26_note_78
    have H := h.fx c1.1
    have hm := mkP_lo (F := fun k => i 3 k 0) vi.2.2.2 m0 (show m < 256 by omega) 8 (by omega)
    rw [mkP_8] at hm
    have hm2 : mkB (fun k => i 3 k 0) m < 256 := hm.2
    rw [jct_in H.2.1, (i_markBytes H.2.1 H.2.2.1 vi cT).1, Option.bind_some, if_pos m1, jct_in H.2.1, i_markByte H.2.2.1 vi m0 (by omega), Option.bind_some]
    refine jS_call (i_p1 c1.2 (by omega) _) fun q ⟨k9, w9⟩ => ?_
    rw [W32_in (by omega) (by omega)]
    refine jS_end ⟨rfl, _, by rw [show p + 28 + (m + 1) = p + 28 + m + 1 by omega]; exact c1.nx k9 w9, fun k hk => by rw [gN_lo (by omega)]; exact c2 k hk, fun k k0 k1 => ?_⟩
    by_cases ck : k = m
    · rw [ck, gN_1]; omega
    · rw [gN_lo (by omega)]; exact c3 k k0 (by omega)
  · show jE (b_X26_note_78 t R b (mkN i)) _
    unfold b_X26_note_78
    have H := h.fx c1.1
    rw [jct_in H.2.1, (i_markBytes H.2.1 H.2.2.1 vi cT).1, Option.bind_some, if_neg (by omega), eu_X26_note_104]; unfold du_X26_note_104
    refine jS_inr ?_
    have eu4 : p + 28 + mkN i ≤ p + nlI i ∧ p + nlI i < p + 28 + mkN i + 4 ∧ (p + nlI i) % 4 = 0 := by unfold nlI up4; omega
    refine jS_for (fun k t => ∃ g', iZ s t R g' k ∧ (∀ k, k < p + 28 + mkN i → g' k = g9 k) ∧ ∀ y, p + 28 + mkN i ≤ y → y < k → g' y = 0) (fun k => [R]) (p + 28 + mkN i) (p + nlI i) eu4.1 ⟨g9, c1, fun _ _ => rfl, fun y y0 y1 => by omega⟩ (fun k t k0 k1 ⟨g10, d1, d2, d3⟩ => ?_) (fun t ⟨g10, d1, d2, d3⟩ => ?_)
    · show jE (b_X26_note_104 t R) _
      unfold b_X26_note_104
      rw [d1.2.1, jdv_in (by decide), Option.bind_some, I_rem_n (by omega) (by omega) (by omega) (by omega), if_neg (by omega)]
      refine jS_call (i_p1 d1.2 (by omega) 0) fun q ⟨k9, w9⟩ => jS_end ⟨rfl, _, d1.nx k9 w9, fun y hy => by rw [gN_lo (by omega)]; exact d2 y hy, fun y y0 y1 => ?_⟩
      by_cases cy : y = k
      · rw [cy, gN_1]; rfl
      · rw [gN_lo (by omega)]; exact d3 y y0 (by omega)
    · show jE (b_X26_note_104 t R) _
      unfold b_X26_note_104
      rw [d1.2.1, jdv_in (by decide), Option.bind_some, I_rem_n (by omega) (by omega) (by omega) (by omega), if_pos eu4.2.2]
      have eg : ∀ k, k < p + 28 → g10 k = g8 k := fun k hk => (d2 k (by omega)).trans (c2 k hk)
      exact jS_inr (jS_end ⟨g10, d1, fun k hk => (eg k (by omega)).trans (e8 k hk), b1.of fun k k0 k1 => eg k (by omega), b2.of fun k k0 k1 => eg k (by omega), b3.of fun k k0 k1 => eg k (by omega), b4.of fun k k0 k1 => eg k (by omega), b5.of fun k k0 k1 => eg k (by omega), b6.of fun k k0 k1 => eg k (by omega), b7.of fun k k0 k1 => eg k (by omega), fun k k0 k1 => by rw [d2 _ (by omega)]; exact c3 k k0 k1, d3⟩)
end jIwrite3
