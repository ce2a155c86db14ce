/-! the twin reads a file: symbols -/
section jTread4
variable {s t u : jS} {X n p q f a b x y z e k m : Int} {g g' : Int → Int} {o : Int → Int → Int → Int} {L : List (Prop × Int × Int)} {c : Prop} {M K : Int}
/-- a file that is good so far, its tables -/
def tX (s u : jS) (X : Int) (g : Int → Int) (n : Int) : Prop := tCf s X g n ∧ tH s u X g ∧ tN u X g ∧ Pr g n
theorem tX.C (h : tX s u X g n) : tCf u X g n := h.1.rd h.2.1.1
theorem tX.by (h : tX s u X g n) (k0 : 0 ≤ k) (k1 : k < 11) : m_X40_bytesOf u X k = some (sR g k.toNat) := t_bytes h.1 h.2.1 h.2.2.2.1 h.2.2.2.2.2.1 h.2.2.1 k0 k1
theorem tX.fr (h : tX s u X g n) (k0 : 0 ≤ k) (k1 : k < 11) (k3 : ¬ k = 3) : m_X40_from u X k = some (fR g k.toNat) := by
  obtain ⟨p1, p2, p3, p4, p5⟩ := h.2.2.2.part (k := k.toNat) (by omega)
  have := h.1.n8
  exact t_from h.1 h.2.1 h.2.2.2.1 h.2.2.2.2.2.1 h.2.2.1 k0 k1 (by omega)
theorem tX.sy (h : tX s u X g n) (x0 : 0 ≤ x) (x1 : x < nSy g) : m_X40_symbolPlace u X x = some (ySy g x) := by
  have hl := nSy_lo h.2.2.2
  have hi := ySy_in h.2.2.2 x0 x1
  have := h.1.n8
  obtain ⟨p1, p2, p3, p4, p5⟩ := h.2.2.2.part (k := 8) (by omega)
  unfold ySy at hi ⊢
  rw [em_X40_symbolPlace]; unfold dm_X40_symbolPlace
  rw [h.fr (k := 8) (by omega) (by omega) (by omega), Option.bind_some, show (8 : Int).toNat = 8 from rfl, W32_in (z := 16 * x) (by omega) (by omega), W32_in (by omega) (by omega)]
theorem tX.nl (h : tX s u X g n) (x0 : 0 ≤ x) (x1 : x < nSy g) (h1 : r4 g (ySy g x) < sR g 9) : 0 ≤ yNm g x ∧ ∃ M, nmLe g (yNm g x) M ∧ yNm g x + M < n := by
  have hi := ySy_in h.2.2.2 x0 x1
  have h4 := r4_lo h.1.2.1 (p := ySy g x) (by omega) (by omega)
  obtain ⟨p1, p2, p3, p4, p5⟩ := h.2.2.2.part (k := 9) (by omega)
  obtain ⟨s1, s2, s3⟩ := h.2.2.2.s9
  unfold yNm
  refine ⟨by omega, ?_⟩
  obtain ⟨M, hM, hM2⟩ := nmL_ex (g := g) (p := fR g 9 + r4 g (ySy g x)) (z := fR g 9 + sR g 9 - 1) (by omega) s3
  exact ⟨M, hM, by omega⟩
theorem tX.nm (h : tX s u X g n) (x0 : 0 ≤ x) (x1 : x < nSy g) (h1 : r4 g (ySy g x) < sR g 9) : m_X40_namePlace u X x = some (yNm g x) := by
  have hi := ySy_in h.2.2.2 x0 x1
  have h4 := r4_lo h.1.2.1 (p := ySy g x) (by omega) (by omega)
  obtain ⟨p1, p2, p3, p4, p5⟩ := h.2.2.2.part (k := 9) (by omega)
  have := h.1.n8
  unfold yNm
  rw [em_X40_namePlace]; unfold dm_X40_namePlace
  rw [h.fr (k := 9) (by omega) (by omega) (by omega), Option.bind_some, show (9 : Int).toNat = 9 from rfl, h.sy x0 x1, Option.bind_some, t_r4 h.C (by omega) (by omega), Option.bind_some, l2i_p, W32_in (z := r4 g (ySy g x)) (by omega) (by omega), W32_in (by omega) (by omega)]
theorem tX.bd (h : tX s u X g n) (x0 : 0 ≤ x) (x1 : x < nSy g) : m_X40_bindOf u X x = some (yHw g x) := by
  have hi := ySy_in h.2.2.2 x0 x1
  have := h.1.n8
  have hb := h.1.2.1 (ySy g x + 12) (by omega) (by omega)
  rw [em_X40_bindOf]; unfold dm_X40_bindOf
  rw [h.sy x0 x1, Option.bind_some, W32_in (by omega) (by omega), t_u1 h.C (by omega) (by omega), Option.bind_some]
  exact congrArg some (i_shr_p (by omega) (by omega) (by omega))
theorem t_nlen (C : tCf u X g n) (hM : nmLe g p M) (p0 : 0 ≤ p) (p1 : p + M < n) : m_X40_nameLength u X p = some M := by
  have := C.n8
  obtain ⟨m0, m1, m2⟩ := hM
  rw [em_X40_nameLength]; unfold dm_X40_nameLength
  rw [eu_X40_nameLength_2]; unfold du_X40_nameLength_2
  refine jforR (fun i => [X, p, i]) 0 M m0 (fun i i0 i1 => ?_) ?_
  · show b_X40_nameLength_2 u X p i = _
    unfold b_X40_nameLength_2
    rw [W32_in (by omega) (by omega), t_u1 C (by omega) (by omega), Option.bind_some, if_neg (m2 i i0 i1), W32_in (by omega) (by omega)]
  · show b_X40_nameLength_2 u X p M = _
    unfold b_X40_nameLength_2
    rw [W32_in (by omega) (by omega), t_u1 C (by omega) (by omega), Option.bind_some, if_pos m1]
noncomputable def nmFg (g : Int → Int) (p m k : Int) : Int := @ite _ (1 ≤ m ∧ m ≤ 16 ∧ ∀ i, 0 ≤ i → i < k → 33 ≤ g (p + i) ∧ g (p + i) ≤ 126) (Classical.propDecidable _) 1 0
theorem nmF_1 : nmFg g p m k = 1 ↔ 1 ≤ m ∧ m ≤ 16 ∧ ∀ i, 0 ≤ i → i < k → 33 ≤ g (p + i) ∧ g (p + i) ≤ 126 := by
  unfold nmFg
  by_cases h : 1 ≤ m ∧ m ≤ 16 ∧ ∀ i, 0 ≤ i → i < k → 33 ≤ g (p + i) ∧ g (p + i) ≤ 126
  · rw [if_pos h]; exact ⟨fun _ => h, fun _ => rfl⟩
  · rw [if_neg h]; exact ⟨fun z => absurd z (by decide), fun z => absurd z h⟩
theorem nmF_01 : nmFg g p m k = 0 ∨ nmFg g p m k = 1 := by
  unfold nmFg
  by_cases h : 1 ≤ m ∧ m ≤ 16 ∧ ∀ i, 0 ≤ i → i < k → 33 ≤ g (p + i) ∧ g (p + i) ≤ 126
  · rw [if_pos h]; exact .inr rfl
  · rw [if_neg h]; exact .inl rfl
theorem t_isName (C : tCf u X g n) (hM : nmLe g p M) (p0 : 0 ≤ p) (p1 : p + M < n) : ∃ r, m_X40_isName u X p = some r ∧ (r = 0 ∨ r = 1) ∧ (r = 1 ↔ nmG g p) := by
  have := C.n8
  have hM' := hM
  obtain ⟨m0, m1, m2⟩ := hM
  have hG : nmFg g p M M = 1 ↔ nmG g p := by
    rw [nmF_1]
    constructor
    · rintro ⟨a, b, c⟩; exact ⟨M, hM', a, b, c⟩
    · rintro ⟨K, hK, a, b, c⟩
      have := nmL_one hM' hK
      subst this; exact ⟨a, b, c⟩
  refine ⟨nmFg g p M M, ?_, nmF_01, hG⟩
  rw [em_X40_isName]; unfold dm_X40_isName
  rw [t_nlen C hM' p0 p1, Option.bind_some]
  have e0 : (if 0 < M then if 16 < M then u_X40_isName_20 u X p M else u_X40_isName_21 u X p M 1 else u_X40_isName_20 u X p M) = u_X40_isName_25 u X p M (nmFg g p M 0) 0 := by
    have e20 : u_X40_isName_20 u X p M = u_X40_isName_21 u X p M 0 := by rw [eu_X40_isName_20]; rfl
    rw [e20]
    simp only [eu_X40_isName_21, du_X40_isName_21]
    by_cases c : 1 ≤ M ∧ M ≤ 16
    · rw [if_pos (by omega), if_neg (by omega), nmF_1.mpr ⟨c.1, c.2, fun i i0 i1 => by omega⟩]
    · rw [nmF_01.resolve_right (fun q => c ⟨(nmF_1.mp q).1, (nmF_1.mp q).2.1⟩)]
      by_cases c1 : 0 < M
      · rw [if_pos c1, if_pos (by omega)]
      · rw [if_neg c1]
  rw [e0, eu_X40_isName_25]; unfold du_X40_isName_25
  refine jforR (fun i => [X, p, M, nmFg g p M i, i]) 0 M m0 (fun i i0 i1 => ?_) ?_
  · show b_X40_isName_25 u X p M (nmFg g p M i) i = _
    unfold b_X40_isName_25
    have e68 : ∀ v, u_X40_isName_68 u X p M i v = some (.inl [X, p, M, v, i + 1]) := fun v => by
      rw [eu_X40_isName_68]; unfold du_X40_isName_68
      rw [W32_in (by omega) (by omega)]
    have e67 : u_X40_isName_67 u X p M i = u_X40_isName_68 u X p M i 0 := by rw [eu_X40_isName_67]; rfl
    rw [if_pos i1, e67, e68, e68, W32_in (by omega) (by omega), t_u1 C (by omega) (by omega), Option.bind_some, Option.bind_some]
    have st : nmFg g p M (i + 1) = 1 ↔ nmFg g p M i = 1 ∧ 33 ≤ g (p + i) ∧ g (p + i) ≤ 126 := by
      rw [nmF_1, nmF_1]
      constructor
      · rintro ⟨a, b, c⟩; exact ⟨⟨a, b, fun j j0 j1 => c j j0 (by omega)⟩, c i i0 (by omega)⟩
      · rintro ⟨⟨a, b, c⟩, d⟩
        exact ⟨a, b, fun j j0 j1 => by
          by_cases e : j = i
          · subst e; exact d
          · exact c j j0 (by omega)⟩
    by_cases c : nmFg g p M (i + 1) = 1
    · obtain ⟨c1, c2⟩ := st.mp c
      rw [if_neg (by omega), if_neg (by omega), if_neg (by omega), c]
    · rw [nmF_01.resolve_right c]
      by_cases c1 : nmFg g p M i = 0
      · rw [if_pos c1]
      · rw [if_neg c1]
        have c1 := nmF_01.resolve_left c1
        by_cases c2 : g (p + i) < 33
        · rw [if_pos c2]
        · rw [if_neg c2, if_pos]
          exact Classical.byContradiction fun q => c (st.mpr ⟨c1, by omega, by omega⟩)
  · show b_X40_isName_25 u X p M (nmFg g p M M) M = _
    unfold b_X40_isName_25
    rw [if_neg (by omega), Wz_in nmF_01]
theorem t_same2 (C : tCf u X g n) (hM : nmLe g p M) (p0 : 0 ≤ p) (p1 : p + M < n) (hK : nmLe g q K) (q0 : 0 ≤ q) (q1 : q + K < n) : ∃ r, u_X40_isSameIn_16 u X p q 0 = some r ∧ (r = 0 ∨ r = 1) ∧ (r = 1 ↔ yEq g p q) := by
  have := C.n8
  have hM' := hM
  have hK' := hK
  obtain ⟨m0, m1, m2⟩ := hM
  obtain ⟨k0, k1, k2⟩ := hK
  have G : ∀ i, 0 ≤ i → i ≤ M → jlt u 1000 (X + 21) 8192 (W32 (p + i)) = some (g (p + i)) := fun i i0 i1 => by
    rw [W32_in (by omega) (by omega), t_u1 C (by omega) (by omega)]
  have G' : ∀ i, 0 ≤ i → i ≤ K → jlt u 1000 (X + 21) 8192 (W32 (q + i)) = some (g (q + i)) := fun i i0 i1 => by
    rw [W32_in (by omega) (by omega), t_u1 C (by omega) (by omega)]
  have hy : ∀ i, 0 ≤ i → i ≤ M → i ≤ K → ¬ g (p + i) = g (q + i) → ¬ yEq g p q := fun i i0 i1 i2 hi ⟨m, h1, h2, h3⟩ => by
    have a := nmL_one hM' h1
    have b := nmL_one hK' h2
    by_cases c : i < M
    · exact hi (h3 i i0 (by omega))
    · have e1 : i = M := by omega
      have e2 : i = K := by omega
      refine hi ?_
      rw [e1, m1, ← e1, e2, k1]
  have e56 : ∀ i, 0 ≤ i → i ≤ M → i ≤ K → u_X40_isSameIn_56 u X p q i = some (if g (p + i) = g (q + i) then 1 else 0) := fun i i0 i1 i2 => by
    rw [eu_X40_isSameIn_56]; unfold du_X40_isSameIn_56
    rw [G i i0 i1, Option.bind_some, G' i i0 i2, Option.bind_some, Wz_0, Wz_1]
    by_cases c : g (p + i) = g (q + i)
    · rw [if_pos c, if_pos c]
    · rw [if_neg c, if_neg c]
  have hmin : ∃ H, 0 ≤ H ∧ H ≤ M ∧ H ≤ K ∧ (H = M ∨ H = K ∧ K < M) := by
    by_cases c : M ≤ K
    · exact ⟨M, m0, by omega, c, .inl rfl⟩
    · exact ⟨K, k0, by omega, by omega, .inr ⟨rfl, by omega⟩⟩
  obtain ⟨H, h0, h1, h2, h3⟩ := hmin
  rw [eu_X40_isSameIn_16]; unfold du_X40_isSameIn_16
  rcases jseekR (R := Int) (C := jc4 b_X40_isSameIn_16) (s := u) (fun i => [X, p, q, i]) (fun i => ¬ g (p + i) = g (q + i)) (fun i => u_X40_isSameIn_56 u X p q i) (u_X40_isSameIn_56 u X p q H) 0 H h0 (fun i i0 i1 hi => by
      show b_X40_isSameIn_16 u X p q i = _
      unfold b_X40_isSameIn_16
      rw [G i i0 (by omega), Option.bind_some, if_neg (m2 i i0 (by omega)), Option.bind_some, G' i i0 (by omega), Option.bind_some, if_pos (Decidable.not_not.mp hi), W32_in (by omega) (by omega)]) (fun i i0 i1 hi => by
      show b_X40_isSameIn_16 u X p q i = _
      unfold b_X40_isSameIn_16
      rw [G i i0 (by omega), Option.bind_some, if_neg (m2 i i0 (by omega)), Option.bind_some, G' i i0 (by omega), Option.bind_some, if_neg hi]) (by
      show b_X40_isSameIn_16 u X p q H = _
      unfold b_X40_isSameIn_16
      rw [G H h0 h1, Option.bind_some]
      rcases h3 with h3 | ⟨h3, h4⟩
      · rw [if_pos (by rw [h3]; exact m1)]
      · rw [if_neg (m2 H h0 (by omega)), Option.bind_some, G' H h0 h2, Option.bind_some, if_neg (fun z => m2 H h0 (by omega) (z.trans (by rw [h3]; exact k1)))]) with ⟨i, i0, i1, i2, -, ei⟩ | ⟨i2, ei⟩
  · rw [ei, e56 i i0 (by omega) (by omega), if_neg i2]
    exact ⟨0, rfl, .inl rfl, ⟨fun z => absurd z (by decide), fun z => absurd z (hy i i0 (by omega) (by omega) i2)⟩⟩
  · rw [ei, e56 H h0 h1 h2]
    by_cases c : g (p + H) = g (q + H)
    · rw [if_pos c]
      refine ⟨1, rfl, .inr rfl, ⟨fun _ => ?_, fun _ => rfl⟩⟩
      have eH : H = M := h3.resolve_right fun ⟨a, b⟩ => m2 H h0 (by omega) (c.trans (by rw [a]; exact k1))
      rw [← eH] at hM'
      exact ⟨H, hM', ⟨h0, by rw [← c, eH]; exact m1, fun i i0 i1 => by rw [← Decidable.not_not.mp (i2 i i0 i1)]; exact m2 i i0 (by omega)⟩, fun i i0 i1 => Decidable.not_not.mp (i2 i i0 i1)⟩
    · rw [if_neg c]
      exact ⟨0, rfl, .inl rfl, ⟨fun z => absurd z (by decide), fun z => absurd z (hy H h0 h1 h2 c)⟩⟩
theorem tX.sm (h : tX s u X g n) (x0 : 0 ≤ x) (x1 : x < nSy g) (hx : r4 g (ySy g x) < sR g 9) (y0 : 0 ≤ y) (y1 : y < nSy g) (hy : r4 g (ySy g y) < sR g 9) : ∃ r, m_X40_isSameIn u X x y = some r ∧ (r = 0 ∨ r = 1) ∧ (r = 1 ↔ yEq g (yNm g x) (yNm g y)) := by
  obtain ⟨a0, M, a1, a2⟩ := h.nl x0 x1 hx
  obtain ⟨b0, K, b1, b2⟩ := h.nl y0 y1 hy
  rw [em_X40_isSameIn]; unfold dm_X40_isSameIn
  rw [h.nm x0 x1 hx, Option.bind_some, h.nm y0 y1 hy, Option.bind_some]
  exact t_same2 h.C a1 a0 a2 b1 b0 b2
theorem tX.wh (h : tX s u X g n) (x0 : 0 ≤ x) (x1 : x < nSy g) : m_X40_whereOf u X x = some (yWh g x) := by
  have hi := ySy_in h.2.2.2 x0 x1
  have := h.1.n8
  have ep' : ∀ k : Int, 0 ≤ k → k < 4 → jlt u 1000 (X + 32) 11 k = some (ep g k.toNat) := fun k k0 k1 => h.2.2.1.ep k0 (by omega)
  rw [em_X40_whereOf]; unfold dm_X40_whereOf yWh
  rw [h.sy x0 x1, Option.bind_some, W32_in (by omega) (by omega), t_r2 h.C (by omega) (by omega), Option.bind_some]
  generalize r2 g (ySy g x + 14) = w
  by_cases c1 : w = 0
  · rw [if_pos c1, if_pos c1]
  rw [if_neg c1, if_neg c1]
  by_cases c2 : w = 65521
  · rw [if_pos c2, if_pos c2]
  rw [if_neg c2, if_neg c2]
  by_cases c3 : w = 65522
  · rw [if_pos c3, if_pos c3]
  rw [if_neg c3, if_neg c3, eu_X40_whereOf_37]; unfold du_X40_whereOf_37
  rcases jseekR (R := Int) (C := jc3 b_X40_whereOf_37) (s := u) (fun k => [X, w, k]) (fun k => ep g k.toNat = w) (fun k => some k) (some (-2)) 0 4 (by omega) (fun k k0 k1 hk => by
      show b_X40_whereOf_37 u X w k = _
      unfold b_X40_whereOf_37
      rw [if_pos k1, ep' k k0 k1, Option.bind_some, if_neg hk, W32_in (by omega) (by omega)]) (fun k k0 k1 hk => by
      show b_X40_whereOf_37 u X w k = _
      unfold b_X40_whereOf_37
      rw [if_pos k1, ep' k k0 k1, Option.bind_some, if_pos hk]) (by
      show b_X40_whereOf_37 u X w 4 = _
      unfold b_X40_whereOf_37
      rw [if_neg (by omega)]) with ⟨k, k0, k1, k2, k3, ek⟩ | ⟨k2, ek⟩
  · rw [ek]
    have b0 := fun z : (0 : Int) < k => k3 0 (by omega) z
    have b1 := fun z : (1 : Int) < k => k3 1 (by omega) z
    have b2 := fun z : (2 : Int) < k => k3 2 (by omega) z
    have : k = 0 ∨ k = 1 ∨ k = 2 ∨ k = 3 := by omega
    rcases this with e | e | e | e <;> subst e
    · rw [if_pos (show ep g 0 = w from k2)]
    · rw [if_neg (show ¬ ep g 0 = w from b0 (by omega)), if_pos (show ep g 1 = w from k2)]
    · rw [if_neg (show ¬ ep g 0 = w from b0 (by omega)), if_neg (show ¬ ep g 1 = w from b1 (by omega)), if_pos (show ep g 2 = w from k2)]
    · rw [if_neg (show ¬ ep g 0 = w from b0 (by omega)), if_neg (show ¬ ep g 1 = w from b1 (by omega)), if_neg (show ¬ ep g 2 = w from b2 (by omega)), if_pos (show ep g 3 = w from k2)]
  · rw [ek, if_neg (show ¬ ep g 0 = w from k2 0 (by omega) (by omega)), if_neg (show ¬ ep g 1 = w from k2 1 (by omega) (by omega)), if_neg (show ¬ ep g 2 = w from k2 2 (by omega) (by omega)), if_neg (show ¬ ep g 3 = w from k2 3 (by omega) (by omega))]
theorem yWh_lo : yWh g x = -2 ∨ yWh g x = -1 ∨ yWh g x = 4 ∨ yWh g x = 5 ∨ 0 ≤ yWh g x ∧ yWh g x < 4 := by
  unfold yWh
  repeat' split
  all_goals omega
theorem tX.am (h : tX s u X g n) (x0 : 0 ≤ x) (x1 : x < nSy g) (hw : ¬ yWh g x = -2) : m_X40_amiss u X x = some (yAm g x) := by
  have hi := ySy_in h.2.2.2 x0 x1
  have := h.1.n8
  have v1 := r4_lo h.1.2.1 (p := ySy g x + 4) (by omega) (by omega)
  have v2 := r4_lo h.1.2.1 (p := ySy g x + 8) (by omega) (by omega)
  have lo := yWh_lo (g := g) (x := x)
  rw [em_X40_amiss]; unfold dm_X40_amiss
  rw [h.sy x0 x1, Option.bind_some, h.wh x0 x1, Option.bind_some, W32_in (by omega) (by omega), t_r4 h.C (by omega) (by omega), Option.bind_some, W32_in (by omega) (by omega), t_r4 h.C (by omega) (by omega), Option.bind_some, h.bd x0 x1]
  simp only [L_cmp_0, L_cmp_lt, L_cmp_gt, Option.bind_some]
  unfold yAm yVa ySz
  generalize hv : r4 g (ySy g x + 4) = v at *
  generalize hz : r4 g (ySy g x + 8) = z at *
  generalize hh : yHw g x = hw' at *
  by_cases c1 : yWh g x = -1
  · rw [if_pos c1, if_pos c1]
    by_cases c2 : v = 0
    · rw [if_pos c2, if_neg (show ¬ ¬ v = 0 from fun q => q c2)]
      by_cases c3 : z = 0
      · rw [if_pos c3, if_neg (show ¬ ¬ z = 0 from fun q => q c3)]
        by_cases c4 : hw' = 0
        · rw [if_pos c4, if_pos c4]
        · rw [if_neg c4, if_neg c4]
      · rw [if_neg c3, if_pos c3]
    · rw [if_neg c2, if_pos c2]
  rw [if_neg c1, if_neg c1]
  by_cases c5 : yWh g x = 5
  · rw [if_pos c5, if_pos c5]
    by_cases c2 : pPw v
    · have lp := c2.lo
      rw [if_neg (by omega), l2i_p, W32_in (by omega) (by omega), t_pow1 c2, Option.bind_some, if_neg (by decide), if_neg (show ¬ ¬ pwB v = true from fun q => q (pwB_i.mpr c2))]
      by_cases c3 : z < 1
      · rw [if_pos c3, if_pos (.inl c3)]
      · rw [if_neg c3]
        by_cases c4 : 4096 < z
        · rw [if_pos c4, if_pos (.inr c4)]
        · rw [if_neg c4, if_neg (show ¬ (z < 1 ∨ 4096 < z) by omega)]
          by_cases c6 : hw' = 1
          · rw [if_pos c6, if_neg (show ¬ ¬ hw' = 1 from fun q => q c6)]
          · rw [if_neg c6, if_pos c6]
    · have nb : ¬ pwB v = true := fun q => c2 (pwB_i.mp q)
      rw [if_pos nb]
      by_cases c3 : 64 < v
      · rw [if_pos c3]
      · rw [if_neg c3, l2i_p, W32_in (by omega) (by omega), t_pow0 c2, Option.bind_some, if_pos rfl]
  rw [if_neg c5, if_neg c5]
  by_cases c4 : yWh g x = 4
  · rw [if_pos c4, if_pos c4]
    by_cases c2 : 2147483647 < z
    · rw [if_pos c2, if_pos c2]
    · rw [if_neg c2, if_neg c2]
  rw [if_neg c4, if_neg c4, h.by (by omega) (by omega), Option.bind_some, Option.bind_some, W64_in (by omega) (by omega)]
  by_cases c2 : sR g (yWh g x).toNat < v
  · rw [if_pos c2, if_pos c2]
  · rw [if_neg c2, if_neg c2]
    by_cases c3 : sR g (yWh g x).toNat < v + z
    · rw [if_pos c3, if_pos c3]
    · rw [if_neg c3, if_neg c3]
theorem yAm_lo : yAm g x = 0 ∨ 4 ≤ yAm g x ∧ yAm g x ≤ 12 := by
  unfold yAm
  repeat' split
  all_goals omega
theorem tX.si (h : tX s u X g n) : m_X40_symbolsIn u X = some (nSy g) := by
  have hl := nSy_lo h.2.2.2
  obtain ⟨s1, s2, s3⟩ := h.2.2.2.s8
  rw [em_X40_symbolsIn]; unfold dm_X40_symbolsIn
  rw [h.by (by omega) (by omega), Option.bind_some, show (8 : Int).toNat = 8 from rfl, jdv_in (by decide), Option.bind_some, L_div_n (by omega) (by omega) (by omega) (by omega), l2i_p, W32_in (by omega) (by omega)]; rfl
/-- a fault, and nothing else changed -/
def tB1 (u : jS) (X : Int) (f p : Int) (q : jS × Int) : Prop := ¬ f = 0 ∧ q.2 = f ∧ q.1 = jp u 44 X 23 p
theorem t_fault1 (hf : ¬ f = 0) : jE ((m_X40_fault u X f p).bind fun q => some (q.1, q.2)) (tB1 u X f p) := by
  rw [em_X40_fault]; unfold dm_X40_fault
  exact jS_end ⟨hf, rfl, rfl⟩
theorem t_faultR1 {S : Type} (hf : ¬ f = 0) : jE (jinr ((m_X40_fault u X f p).bind fun q => some (q.1, q.2)) : Option (S ⊕ (jS × Int))) fun x => ∃ r, x = .inr r ∧ tB1 u X f p r := jS_inr (jE_mono (t_fault1 hf) fun r hr => ⟨r, rfl, hr⟩)
/-- the first symbol is all zeros -/
theorem t_sym0 (h : tX s u X g n) : jE (m_X40_symbolFault u X 0) (ckR (tOK fun t => t = u) (tB1 u X) (ckF (fun k => [(g (fR g 8 + k) = 0, 21, fR g 8 + k)]) 0 16 ++ [])) := by
  have hl := nSy_lo h.2.2.2
  have hi := ySy_in h.2.2.2 (x := 0) (by omega) (by omega)
  have := h.1.n8
  have e0 : ySy g 0 = fR g 8 := by unfold ySy; omega
  rw [em_X40_symbolFault]; unfold dm_X40_symbolFault
  rw [h.sy (by omega) (by omega), Option.bind_some, e0]
  rw [e0] at hi
  rw [eu_X40_symbolFault_8]; unfold du_X40_symbolFault_8
  refine jk_for (fun k => [(g (fR g 8 + k) = 0, 21, fR g 8 + k)]) (fun _ w => w = u) (fun k => [X, 0, fR g 8, k]) 0 16 (by omega) rfl (fun k w k0 k1 _ ew => ?_) fun w ew _ => ?_
  · subst ew
    show jE (b_X40_symbolFault_8 w X 0 (fR g 8) k) _
    unfold b_X40_symbolFault_8
    rw [if_pos k1, if_pos rfl, W32_in (z := fR g 8 + k) (by omega) (by omega), t_u1 h.C (by omega) (by omega), Option.bind_some]
    refine tk_if Iff.rfl ?_ fun _ => jk_end ?_
    · rw [eu_X40_symbolFault_29]; unfold du_X40_symbolFault_29
      rw [W32_in (by omega) (by omega)]
      exact t_faultR1 (by omega)
    · rw [W32_in (by omega) (by omega)]
      exact jS_end ⟨w, rfl, rfl⟩
  · subst ew
    show jE (b_X40_symbolFault_8 w X 0 (fR g 8) 16) _
    unfold b_X40_symbolFault_8
    rw [if_neg (by omega), eu_X40_symbolFault_45]; unfold du_X40_symbolFault_45
    rw [if_pos rfl]
    exact jS_inr (jS_end ⟨_, rfl, ck_end ⟨rfl, rfl⟩⟩)
/-- one symbol -/
theorem t_sym1 (h : tX s u X g n) (x0 : 1 ≤ x) (x1 : x < nSy g) (hG : ∀ i, 1 ≤ i → i < x → Gd (Lsym g i)) : jE (m_X40_symbolFault u X x) (ckR (tOK fun t => t = u) (tB1 u X) (Lsym g x)) := by
  have hl := nSy_lo h.2.2.2
  have hi := ySy_in h.2.2.2 (x := x) (by omega) (by omega)
  have := h.1.n8
  have hr := h.2.1.1
  have b12 := h.1.2.1 (ySy g x + 12) (by omega) (by omega)
  have i4 : I_shr (g (ySy g x + 12)) 4 = yHw g x := i_shr_p (by omega) (by omega) (by omega)
  have i15 : I_and (g (ySy g x + 12)) 15 = g (ySy g x + 12) % 16 := I_and_15 _
  have hyw : yHw g x = g (ySy g x + 12) / 16 := rfl
  rw [em_X40_symbolFault]; unfold dm_X40_symbolFault
  rw [h.sy (by omega) x1, Option.bind_some, eu_X40_symbolFault_8]; unfold du_X40_symbolFault_8
  have e45 : jlpW (jc4 b_X40_symbolFault_8) [X, x, ySy g x, 0] u = u_X40_symbolFault_45 u X x (ySy g x) := jlpW_r (by
    show b_X40_symbolFault_8 u X x _ 0 = _
    unfold b_X40_symbolFault_8
    rw [if_pos (by omega), if_neg (by omega)])
  rw [e45, eu_X40_symbolFault_45]; unfold du_X40_symbolFault_45
  rw [if_neg (by omega), t_r4 h.C (by omega) (by omega), Option.bind_some, h.by (k := 9) (by omega) (by omega), Option.bind_some, show (9 : Int).toNat = 9 from rfl]
  unfold Lsym
  simp only [L_cmp_lt]
  have e78 : ∀ (Q : Prop) M, ¬ Q → jE (u_X40_symbolFault_78 u X (ySy g x)) (ckR (tOK fun t => t = u) (tB1 u X) ((Q, 22, ySy g x) :: M)) := fun Q M hQ => jk_no hQ (by
    rw [eu_X40_symbolFault_78]; unfold du_X40_symbolFault_78
    exact t_fault1 (by omega))
  by_cases c1 : r4 g (ySy g x) < sR g 9
  rotate_left
  · rw [if_neg c1]; exact e78 _ _ fun z => c1 z.1
  obtain ⟨q0, M, hM, q1⟩ := h.nl (by omega) x1 c1
  obtain ⟨r, er, r01, hrG⟩ := t_isName h.C hM q0 q1
  rw [if_pos c1, h.nm (by omega) x1 c1, Option.bind_some, er, Option.bind_some]
  by_cases c2 : r = 0
  · rw [if_pos c2]; exact e78 _ _ fun z => by have := hrG.mpr z.2; omega
  have c2' := hrG.mp (r01.resolve_left c2)
  rw [if_neg c2]
  refine jk_ok ⟨c1, c2'⟩ ?_
  rw [W32_in (z := ySy g x + 12) (by omega) (by omega), t_u1 h.C (by omega) (by omega), Option.bind_some, i4, i15]
  have e111 : ∀ A : Option (jS × Int), (if 2 < yHw g x then u_X40_symbolFault_111 u X (ySy g x) else if 2 < g (ySy g x + 12) % 16 then u_X40_symbolFault_111 u X (ySy g x) else A) = if g (ySy g x + 12) / 16 < 3 ∧ g (ySy g x + 12) % 16 < 3 then A else u_X40_symbolFault_111 u X (ySy g x) := fun A => by
    by_cases c3 : 2 < yHw g x
    · rw [if_pos c3, if_neg (by omega)]
    · rw [if_neg c3]
      by_cases c4 : 2 < g (ySy g x + 12) % 16
      · rw [if_pos c4, if_neg (by omega)]
      · rw [if_neg c4, if_pos (by omega)]
  rw [e111]
  refine tk_if Iff.rfl (by rw [eu_X40_symbolFault_111]; unfold du_X40_symbolFault_111; rw [W32_in (by omega) (by omega)]; exact t_fault1 (by omega)) fun c3 => ?_
  rw [W32_in (z := ySy g x + 13) (by omega) (by omega), t_u1 h.C (by omega) (by omega), Option.bind_some]
  refine tk_if Iff.rfl (t_fault1 (by omega)) fun c4 => ?_
  rw [W32_in (z := x - 1) (by omega) (by omega)]
  have e177 : (if yHw g x = 0 then if 1 < x then (m_X40_bindOf u X (x - 1)).bind fun v7 => if v7 = 0 then u_X40_symbolFault_177 u X x (ySy g x) (g (ySy g x + 12)) else (m_X40_fault u X 24 (ySy g x + 12)).bind fun q8 => some (q8.1, q8.2) else u_X40_symbolFault_177 u X x (ySy g x) (g (ySy g x + 12)) else u_X40_symbolFault_177 u X x (ySy g x) (g (ySy g x + 12))) = if 0 < yHw g x ∨ x = 1 ∨ yHw g (x - 1) = 0 then u_X40_symbolFault_177 u X x (ySy g x) (g (ySy g x + 12)) else (m_X40_fault u X 24 (ySy g x + 12)).bind fun q8 => some (q8.1, q8.2) := by
    by_cases c5 : yHw g x = 0
    · rw [if_pos c5]
      by_cases c6 : 1 < x
      · rw [if_pos c6, h.bd (by omega) (by omega), Option.bind_some]
        by_cases c7 : yHw g (x - 1) = 0
        · rw [if_pos c7, if_pos (.inr (.inr c7))]
        · rw [if_neg c7, if_neg (by omega)]
      · rw [if_neg c6, if_pos (by omega)]
    · rw [if_neg c5, if_pos (by omega)]
  rw [e177]
  refine tk_if Iff.rfl (t_fault1 (by omega)) fun c5 => ?_
  rw [eu_X40_symbolFault_177]; unfold du_X40_symbolFault_177
  rw [h.wh (by omega) x1, Option.bind_some, W32_in (z := ySy g x + 14) (by omega) (by omega)]
  refine tk_no Decidable.not_not.symm (t_fault1 (by omega)) fun c6 => ?_
  have am := yAm_lo (g := g) (x := x)
  rw [h.am (by omega) x1 c6, Option.bind_some, W32_in (z := ySy g x + yAm g x) (by omega) (by omega)]
  refine tk_no (by omega) (t_fault1 (by omega)) fun c7 => ?_
  rw [eu_X40_symbolFault_224]; unfold du_X40_symbolFault_224
  rcases jseekW (R := jS × Int) (C := jc5 b_X40_symbolFault_224) (s := u) (fun k => [X, x, ySy g x, g (ySy g x + 12), k]) (fun k => yHw g x = 0 ∨ ¬ yHw g k = 0 ∧ yEq g (yNm g x) (yNm g k)) (fun k => if yHw g x = 0 then some (u, 0) else u_X40_symbolFault_255 u X (ySy g x)) (some (u, 0)) 1 x (by omega) (fun k k0 k1 hk => by
      show b_X40_symbolFault_224 u X x _ _ k = _
      unfold b_X40_symbolFault_224
      have ck := (Gd_cons.mp (hG k k0 k1)).1.1
      obtain ⟨r, er, r01, hrE⟩ := h.sm (x := x) (by omega) x1 c1 (y := k) (by omega) (by omega) ck
      have e263 : u_X40_symbolFault_263 u X x (ySy g x) (g (ySy g x + 12)) k = some (.inl (u, [X, x, ySy g x, g (ySy g x + 12), k + 1])) := by
        rw [eu_X40_symbolFault_263]; unfold du_X40_symbolFault_263
        rw [W32_in (by omega) (by omega)]
      rw [if_pos k1, i4, if_neg (fun z => hk (.inl z)), h.bd (by omega) (by omega), Option.bind_some, er, e263]
      by_cases c8 : yHw g k = 0
      · rw [if_pos c8]
      · rw [if_neg c8, Option.bind_some]
        rw [if_pos (r01.resolve_right fun z => hk (.inr ⟨c8, hrE.mp z⟩))]) (fun k k0 k1 hk => by
      show b_X40_symbolFault_224 u X x _ _ k = _
      unfold b_X40_symbolFault_224
      have ck := (Gd_cons.mp (hG k k0 k1)).1.1
      obtain ⟨r, er, r01, hrE⟩ := h.sm (x := x) (by omega) x1 c1 (y := k) (by omega) (by omega) ck
      rw [if_pos k1, i4]
      by_cases c9 : yHw g x = 0
      · rw [if_pos c9, if_pos c9]
      · rcases hk with hk | ⟨hk, hk2⟩
        · exact absurd hk c9
        · have := hrE.mpr hk2
          rw [if_neg c9, if_neg c9, h.bd (by omega) (by omega), Option.bind_some, if_neg hk, er, Option.bind_some, if_neg (by omega)]) (by
      show b_X40_symbolFault_224 u X x _ _ x = _
      unfold b_X40_symbolFault_224
      rw [if_neg (by omega)]) with ⟨k, k0, k1, k2, -, ek⟩ | ⟨k2, ek⟩
  · rw [ek]
    by_cases c9 : yHw g x = 0
    · rw [if_pos c9]
      exact jk_ok (.inl c9) (jk_end (jS_end ⟨rfl, rfl⟩))
    · rw [if_neg c9, eu_X40_symbolFault_255]; unfold du_X40_symbolFault_255
      rcases k2 with k2 | ⟨k2, k3⟩
      · exact absurd k2 c9
      · refine jk_no (fun z => ?_) (t_fault1 (by omega))
        rcases z with z | z
        · exact c9 z
        · obtain ⟨m, m1, m2, m3⟩ := k3
          exact z k k0 k1 k2 ⟨m, m2, m1, fun i i0 i1 => (m3 i i0 i1).symm⟩
  · rw [ek]
    refine jk_ok ?_ (jk_end (jS_end ⟨rfl, rfl⟩))
    refine .inr fun y y0 y1 y2 y3 => ?_
    obtain ⟨m, m1, m2, m3⟩ := y3
    exact k2 y y0 y1 (.inr ⟨y2, m, m2, m1, fun i i0 i1 => (m3 i i0 i1).symm⟩)
theorem t_info (h : tX s u X g n) : jE (m_X40_infoFault u X) (ckR (tOK fun t => t = u) (tBD s X) [(rt g (ep g 8) 7 = 1 + cn (fun x => decide (yHw g (x + 1) = 0)) (nSy g - 1), 28, rf g (ep g 8) 7)]) := by
  have hl := nSy_lo h.2.2.2
  have hR := h.2.2.2.2.2.2.1
  have l8 := ep_lo h.2.2.2.1 h.2.2.2.2.2.1 8
  have c8 := hR.2.1
  have hlo := fun k k0 => cn_lo (P := fun x => decide (yHw g (x + 1) = 0)) (x := k) k0
  rw [em_X40_infoFault]; unfold dm_X40_infoFault
  rw [eu_X40_infoFault_4]; unfold du_X40_infoFault_4
  have := jforW (C := jc3 b_X40_infoFault_4) (fun x => [X, 1 + cn (fun x => decide (yHw g (x + 1) = 0)) (x - 1), x]) (fun _ => u) 1 (nSy g) hl.1 (fun x x0 x1 => by
      show b_X40_infoFault_4 u X _ x = _
      unfold b_X40_infoFault_4
      have := hlo (x - 1) (by omega)
      have e26 : ∀ v, 0 ≤ v → v ≤ 1 → u_X40_infoFault_26 u X x v (1 + cn (fun x => decide (yHw g (x + 1) = 0)) (x - 1)) = some (.inl (u, [X, 1 + cn (fun x => decide (yHw g (x + 1) = 0)) (x - 1) + v, x + 1])) := fun v v0 v1 => by
        rw [eu_X40_infoFault_26]; unfold du_X40_infoFault_26
        simp only [jlet]
        rw [W64_in (by omega) (by omega), W32_in (by omega) (by omega)]
      rw [h.si, Option.bind_some, if_pos x1, h.bd (by omega) x1, Option.bind_some, e26 1 (by omega) (by omega), e26 0 (by omega) (by omega)]
      have hs := cn_s (P := fun x => decide (yHw g (x + 1) = 0)) (x := x - 1) (by omega)
      rw [show x - 1 + 1 = x by omega] at hs
      rw [show x + 1 - 1 = x by omega, hs]
      by_cases c : yHw g x = 0
      · rw [if_pos c, if_pos (by exact decide_eq_true c)]
        simp only [Option.some.injEq, Sum.inl.injEq, Prod.mk.injEq, List.cons.injEq, true_and, and_true]; omega
      · rw [if_neg c, if_neg (fun z => c (of_decide_eq_true z))]
        simp only [Option.some.injEq, Sum.inl.injEq, Prod.mk.injEq, List.cons.injEq, true_and, and_true]; omega) (r := u_X40_infoFault_34 u X (1 + cn (fun x => decide (yHw g (x + 1) = 0)) (nSy g - 1))) (by
      show b_X40_infoFault_4 u X _ (nSy g) = _
      unfold b_X40_infoFault_4
      rw [h.si, Option.bind_some, if_neg (by omega)])
  have e1 : (1 : Int) + cn (fun x => decide (yHw g (x + 1) = 0)) (1 - 1) = 1 := rfl
  rw [e1] at this
  rw [this, eu_X40_infoFault_34]; unfold du_X40_infoFault_34
  rw [h.2.2.1.ep (k := 8) (by omega) (by omega), Option.bind_some, show (8 : Int).toNat = 8 from rfl, h.2.1.to h.1 h.2.2.2.1 (by omega) l8.2 (by omega) (by omega), Option.bind_some]
  refine tk_if (L_cmp_0 _ _) ?_ fun _ => jk_end (jS_end ⟨rfl, rfl⟩)
  rw [h.2.1.sp h.1 h.2.2.2.1 (by omega) l8.2 (by omega) (by omega), Option.bind_some]
  exact t_fault h.2.1.1 (by omega)
end jTread4
