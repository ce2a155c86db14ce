/-! the linker: the component puts a label where a symbol is *-/
set_option maxRecDepth 100000
section jLpa
variable {s t u w r s' t' s0 t0 q' : jS} {a b g k m n p v l x y0 c j X f i H B C P Q P' Q' S N M K K' : Int} {O : Int → Int → Int → Int → Int} {o : Int → Int → Int → Int} {d d' e z y : Int → Int → Int} {G : Int → Int}
/-- objects of the layout and its own row, no pools -/
abbrev lKs (c : Int) : Prop := c = 40 ∨ 70 ≤ c ∧ c ≤ 77
theorem lpR.sec (h : lpR H S O t d z e G) (hk : lkB C H S O s t) (hX : vsy S O X) (h0 : 0 ≤ sy O X 0) (h3 : sy O X 0 ≤ 3) : (0 ≤ sy O X 1 ∧ sy O X 1 ≤ O (X / 100) 1 (sy O X 0) 0) ∧ pCt d z (4 * nIn S (X / 100).toNat + sy O X 0) (O (X / 100) 1 (sy O X 0) 0) ∧ (0 ≤ 4 * nIn S (X / 100).toNat + sy O X 0 ∧ 4 * nIn S (X / 100).toNat + sy O X 0 < d 0 0) ∧ jf t 1000 (H + 202) (4 * (X / 100) + sy O X 0) = 4 * nIn S (X / 100).toNat + sy O X 0 := by
  have hx := hX.1
  obtain ⟨-, -, -, g⟩ := hk.2.2.1 (X / 100) (by omega) (by omega) hX.2.1
  obtain ⟨g1, g2, g3⟩ := g.2.1 (X % 100) (by omega) hX.2.2 h0 h3
  obtain ⟨⟨p1, p2, p3⟩, p4⟩ := h.1 (X / 100) (sy O X 0) (by omega) (by omega) hX.2.1 h0 (by omega)
  have nx := (nIn_lo (S := S) (X / 100).toNat).1
  have e1 : sy O X 1 = O (X / 100) 4 (X % 100) 1 := rfl
  have e2 : sy O X 0 = O (X / 100) 4 (X % 100) 0 := rfl
  refine ⟨⟨g1, ?_⟩, p3, ⟨by omega, p4⟩, p1⟩
  rw [e1, e2]; omega
theorem c_putAt (hk : lkB C H S O s t) (vl : vLy d) (hy : cLy s (C + 4275 + 1) d) (hz : cPz C s d z) (hR : lpR H S O t d z e G) (hX : vsy S O X) (l0 : 0 ≤ l) (l1 : l < d 0 2) : ∃ u, m_X35_putAt s (C + 4275) l (X / 100) (syA C X) = some (u, 0) ∧ (((0 ≤ sy O X 0 ∧ sy O X 0 ≤ 3) ∧ ∃ k a, syT S O d z X k a ∧ vLy (dLp d l k a) ∧ cLy u (C + 4275 + 1) (dLp d l k a)) ∨ (¬ (0 ≤ sy O X 0 ∧ sy O X 0 ≤ 3) ∧ cLy u (C + 4275 + 1) d)) ∧ cBW C s u 0 0 ∧ ∀ c a k, ¬ lKs c → ¬ (c = 1000 ∧ C + 4284 ≤ a ∧ a ≤ C + 4287) → jf u c a k = jf s c a k := by
  obtain ⟨-, ⟨c1, c2, -⟩, ⟨y1, y2, -⟩, -, -⟩ := hk.sym hX
  have hx := hX.1
  rw [em_X35_putAt]; unfold dm_X35_putAt
  rw [jrd_in y1 y2, Option.bind_some, c1]
  by_cases h0 : sy O X 0 < 0
  · rw [if_pos h0]
    exact ⟨s, rfl, .inr ⟨by omega, hy⟩, .rfl, fun _ _ _ _ _ => rfl⟩
  · rw [if_neg h0, Option.bind_some]
    by_cases h3 : 3 < sy O X 0
    · rw [if_pos h3]
      exact ⟨s, rfl, .inr ⟨by omega, hy⟩, .rfl, fun _ _ _ _ _ => rfl⟩
    · obtain ⟨a1, a2, ⟨a3, a4⟩, -⟩ := hR.sec hk hX (by omega) (by omega)
      have J2 : jrd s 20 (syA C X) 2 = some (sy O X 1) := by rw [jrd_in y1 y2, c2]
      obtain ⟨k, ek, hpk⟩ := c_pieceAt hz a2 vl a3 a4 a1.1
      obtain ⟨-, -, ⟨d1, d2, d3⟩, -⟩ := vl.2.2.2.2.1 _ a3 a4
      have hk0 : 0 ≤ k ∧ k < d 0 1 := by have := hpk.1; omega
      obtain ⟨u, eu, hw, cu, ld, h19⟩ := c_pieceS hy vl hk0.1 hk0.2
      have v1 := vl.2.1
      rw [if_neg h3, Option.bind_some, c_partOf hk.2.1 (by omega) (by omega) hX.2.1 (by omega) (by omega), Option.bind_some, J2, Option.bind_some, ek, Option.bind_some, eu, Option.bind_some]
      have mu : jSm s u := hw.1
      have Fu : ∀ c a k, ¬ lKs c → ¬ (c = 1000 ∧ C + 4284 ≤ a ∧ a ≤ C + 4287) → jf u c a k = jf s c a k := fun c a k q1 q2 => hw.2 c a k (by omega) (by omega) (by omega) (by omega) (by omega)
      have gu : cBW C s u 0 0 := hw.toZ.bw
      have U2 : jrd u 20 (syA C X) 2 = some (sy O X 1) := by rw [jrd_in y1 (by rw [mu.1]; exact y2), Fu _ _ _ (by omega) (by omega), c2]
      have U25 : jlt u 1000 (C + 4275 + 25) 256 k = some (z 0 k) := by rw [jlt_in hk0.1 (by omega), Fu _ _ _ (by omega) (by omega), (hz.2.1 k hk0.1 hk0.2).1]
      have a0 := (hR.2.2 k hk0.1 hk0.2).1
      have n2048 : O (X / 100) 1 (sy O X 0) 0 ≤ 4096 := by
        obtain ⟨-, -, v, -⟩ := hk.2.2.1 (X / 100) (by omega) (by omega) hX.2.1
        have := (v.1 (sy O X 0) (by omega) (by omega)).2.1
        split at this <;> omega
      -- the end
      have fin : ∀ a, syT S O d z X k a → ∃ u', u_X35_putAt_101 u a k l (C + 4275 + 1) = some (u', 0) ∧ (((0 ≤ sy O X 0 ∧ sy O X 0 ≤ 3) ∧ ∃ k a, syT S O d z X k a ∧ vLy (dLp d l k a) ∧ cLy u' (C + 4275 + 1) (dLp d l k a)) ∨ (¬ (0 ≤ sy O X 0 ∧ sy O X 0 ≤ 3) ∧ cLy u' (C + 4275 + 1) d)) ∧ cBW C s u' 0 0 ∧ ∀ c a k, ¬ lKs c → ¬ (c = 1000 ∧ C + 4284 ≤ a ∧ a ≤ C + 4287) → jf u' c a k = jf s c a k := fun a ha => by
        obtain ⟨-, ok⟩ := ha.ok a2 vl a4 hR.2.2 a1
        obtain ⟨u', e', cy, m', F'⟩ := c_lputY (h := ⟨cu, .inr ⟨h19, ld⟩⟩) vl ⟨l0, l1⟩ hk0 ok
        rw [eu_X35_putAt_101]; unfold du_X35_putAt_101
        rw [e', Option.bind_some]
        refine ⟨u', rfl, .inl ⟨by omega, k, a, ha, vl.lp hk0 ok, cy⟩, ?_, fun c a k q1 q2 => by rw [F' _ _ _ (by omega), Fu _ _ _ q1 q2]⟩
        have g2 : cBW C u u' 0 0 := ⟨jGw.sm m' fun c a k hA => F' c a k (fun z => hA (.inr (by omega))), fun c a k q1 _ _ _ _ => F' c a k (by omega)⟩
        exact (gu.trans g2).mono (by omega) (by omega)
      by_cases c5 : d 5 k = 0
      · rw [if_pos c5, eu_X35_putAt_53]; unfold du_X35_putAt_53
        rw [if_neg (by decide), U2, U25, Option.bind_some, Option.bind_some, W32_in (by omega) (by omega)]
        exact fin _ ⟨by omega, hpk, by rw [if_pos c5]⟩
      · rw [if_neg c5, eu_X35_putAt_53]; unfold du_X35_putAt_53
        rw [if_pos rfl, U2, U25, Option.bind_some, Option.bind_some]
        by_cases ce : sy O X 1 = z 0 k
        · rw [if_pos ce]; exact fin _ ⟨by omega, hpk, by rw [if_neg c5, if_pos ce]⟩
        · rw [if_neg ce]; exact fin _ ⟨by omega, hpk, by rw [if_neg c5, if_neg ce]⟩
end jLpa
