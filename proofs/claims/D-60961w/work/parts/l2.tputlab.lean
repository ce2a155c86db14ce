/-! the linker: the twin puts a label *-/
set_option maxRecDepth 100000
section jLpt
variable {s t u w r s' t' s0 t0 q' : jS} {a b g k m n p v l x y0 c j X f i H B C P Q P' Q' S N M K K' : Int} {O : Int → Int → Int → Int → Int} {o : Int → Int → Int → Int} {d d' e z y : Int → Int → Int} {G : Int → Int}
theorem pcI.z2 (h : pcI O d z k) : z 2 k = -1 ↔ d 5 k = 0 := by
  obtain ⟨-, h⟩ := h
  rcases h with ⟨h1, h2, -⟩ | ⟨h0, i, h1, h2, -, -, -, h3, -⟩
  · exact ⟨fun _ => h2, fun _ => h1⟩
  · refine ⟨fun q => by omega, fun q => ?_⟩
    rw [q] at h3; unfold srT at h3
    split at h3
    · omega
    split at h3
    · omega
    split at h3 <;> omega
theorem t_putAt (hk : lkB C H S O s t) (vl : vLy d) (hy : tLs t (H + 93) d) (hz : tPz H t d z) (hR : lpR H S O t d z e G) (hX : vsy S O X) (K0 : 0 ≤ K) (K1 : K < 1200) (hl : jf t 1000 (H + 204) K = l) (l0 : 0 ≤ l) (l1 : l < d 0 2) : ∃ u, u_X37_putLabel_95 t H K X = some (u, 0) ∧ (((0 ≤ sy O X 0 ∧ sy O X 0 ≤ 3) ∧ ∃ k a, syT S O d z X k a ∧ vLy (dLp d l k a) ∧ tLs u (H + 93) (dLp d l k a)) ∨ (¬ (0 ≤ sy O X 0 ∧ sy O X 0 ≤ 3) ∧ tLs u (H + 93) d)) ∧ tbW (H + 93) t u := by
  obtain ⟨-, -, -, -, ⟨c1, c2, -⟩⟩ := hk.sym hX
  have hx := hX.1
  have J1 : jlt t 1000 (H + 177) 600 X = some (sy O X 0) := by rw [jlt_in (by omega) (by omega), c1]
  have J2 : jlt t 1000 (H + 178) 600 X = some (sy O X 1) := by rw [jlt_in (by omega) (by omega), c2]
  rw [eu_X37_putLabel_95]; unfold du_X37_putLabel_95
  rw [J1, Option.bind_some]
  by_cases h0 : sy O X 0 < 0
  · rw [if_pos h0]
    exact ⟨t, rfl, .inr ⟨by omega, hy⟩, .rfl⟩
  · rw [if_neg h0, Option.bind_some]
    by_cases h3 : 3 < sy O X 0
    · rw [if_pos h3]
      exact ⟨t, rfl, .inr ⟨by omega, hy⟩, .rfl⟩
    · obtain ⟨a1, a2, ⟨a3, a4⟩, a5⟩ := hR.sec hk hX (by omega) (by omega)
      have vb := vl.1
      have v1 := vl.2.1
      have J202 : jlt t 1000 (H + 202) 24 (4 * (X / 100) + sy O X 0) = some (4 * nIn S (X / 100).toNat + sy O X 0) := by rw [jlt_in (by omega) (by omega), a5]
      obtain ⟨k, ek, hpk⟩ := t_pieceAt hz a2 vl hR.2.2 a3 a4 a1.1
      obtain ⟨-, -, ⟨d1, d2, d3⟩, -⟩ := vl.2.2.2.2.1 _ a3 a4
      have hk0 : 0 ≤ k ∧ k < d 0 1 := by have := hpk.1; omega
      obtain ⟨z0, z1, z2⟩ := hz.1 k hk0.1 hk0.2
      have J197 : jlt t 1000 (H + 197) 256 k = some (z 0 k) := by rw [jlt_in hk0.1 (by omega), z0]
      have J199 : jlt t 1000 (H + 199) 256 k = some (z 2 k) := by rw [jlt_in hk0.1 (by omega), z2]
      have J204 : jlt t 1000 (H + 204) 1200 K = some l := by rw [jlt_in K0 K1, hl]
      have a0 := (hR.2.2 k hk0.1 hk0.2).1
      have iz := (hR.2.2 k hk0.1 hk0.2).z2
      have n2048 : O (X / 100) 1 (sy O X 0) 0 ≤ 4096 := by
        obtain ⟨-, -, v, -⟩ := hk.2.2.1 (X / 100) (by omega) (by omega) hX.2.1
        have := (v.1 (sy O X 0) (by omega) (by omega)).2.1
        split at this <;> omega
      have fin : ∀ a, syT S O d z X k a → ∃ u', u_X37_putLabel_195 t a k l (H + 93) = some (u', 0) ∧ (((0 ≤ sy O X 0 ∧ sy O X 0 ≤ 3) ∧ ∃ k a, syT S O d z X k a ∧ vLy (dLp d l k a) ∧ tLs u' (H + 93) (dLp d l k a)) ∨ (¬ (0 ≤ sy O X 0 ∧ sy O X 0 ≤ 3) ∧ tLs u' (H + 93) d)) ∧ tbW (H + 93) t u' := fun a ha => by
        obtain ⟨-, ok⟩ := ha.ok a2 vl a4 hR.2.2 a1
        obtain ⟨u', e', cy, hw⟩ := t_lput hy vl ⟨l0, l1⟩ hk0 ok
        rw [eu_X37_putLabel_195]; unfold du_X37_putLabel_195
        rw [e', Option.bind_some]
        exact ⟨u', rfl, .inl ⟨by omega, k, a, ha, vl.lp hk0 ok, cy⟩, hw⟩
      rw [if_neg h3, I_div_n (by omega) (by omega) (by decide) (by decide), jdv_in (by decide), Option.bind_some, Option.bind_some, W32_in (z := 4 * (X / 100)) (by omega) (by omega), W32_in (by omega) (by omega), J202, Option.bind_some, J2, Option.bind_some, ek, Option.bind_some, Option.bind_some, J197, Option.bind_some]
      simp only [jlet]
      rw [W32_in (by omega) (by omega), J204, Option.bind_some, J199, Option.bind_some]
      by_cases c5 : d 5 k = 0
      · rw [if_pos (iz.mpr c5)]
        exact fin _ ⟨by omega, hpk, by rw [if_pos c5]⟩
      · rw [if_neg (fun q => c5 (iz.mp q))]
        by_cases ce : sy O X 1 = z 0 k
        · rw [if_pos (by omega)]; exact fin _ ⟨by omega, hpk, by rw [if_neg c5, if_pos ce]⟩
        · rw [if_neg (by omega)]; exact fin _ ⟨by omega, hpk, by rw [if_neg c5, if_neg ce]⟩
theorem t_putLab (hk : lkB C H S O s t) (hg : gFt H S O t e) (gv : gFv S O e) (vl : vLy d) (hy : tLs t (H + 93) d) (hz : tPz H t d z) (hR : lpR H S O t d z e G) (hG : ∀ g, 0 ≤ g → g < e 0 0 → e 3 g = 2 → jf t 1000 (H + 195) g = G g) (hX : vsy S O X) (hl : jf t 1000 (H + 204) (kyO O e X) = l) (l0 : 0 ≤ l) (l1 : l < d 0 2) : ∃ u, m_X37_putLabel t H (kyO O e X) = some (u, 0) ∧ ((∃ k a, lT S O e d z G (kyO O e X) k a ∧ vLy (dLp d l k a) ∧ tLs u (H + 93) (dLp d l k a)) ∨ ((∀ k a, ¬ lT S O e d z G (kyO O e X) k a) ∧ tLs u (H + 93) d)) ∧ tbW (H + 93) t u := by
  have hX0 := hX.1
  have v2 := vl.2.2.1
  rw [em_X37_putLabel]; unfold dm_X37_putLabel
  by_cases c3 : sy O X 3 = 0
  · have ek : kyO O e X = X := by unfold kyO; rw [if_pos c3]
    obtain ⟨u, e1, h1, h2⟩ := t_putAt (K := X) hk vl hy hz hR hX (by omega) (by omega) (by rw [← ek]; exact hl) l0 l1
    have lt : ∀ k a, lT S O e d z G (kyO O e X) k a ↔ syT S O d z X k a := fun k a => lT_lo hX c3
    simp only [lt]
    rw [ek, if_pos (by omega), eu_X37_putLabel_21]; unfold du_X37_putLabel_21
    rw [if_pos (by omega), eu_X37_putLabel_74]; unfold du_X37_putLabel_74
    rw [if_pos (by omega), e1]
    refine ⟨u, rfl, ?_, h2⟩
    rcases h1 with ⟨-, k, a, a1, a2, a3⟩ | ⟨b1, b2⟩
    · exact .inl ⟨k, a, a1, a2, a3⟩
    · exact .inr ⟨fun k a q => b1 q.1, b2⟩
  · have g1 := gv.2.2 X ⟨hX, c3⟩
    have e6 := gv.1.2.1
    obtain ⟨-, ⟨m0, m1⟩, mo, -⟩ := gv.2.1 (e 1 X) g1.1 g1.2
    obtain ⟨-, q2, q3, -⟩ := hg.2.2 (e 1 X) g1.1 g1.2
    have ek : kyO O e X = 600 + e 1 X := by unfold kyO; rw [if_neg c3]
    have lt : ∀ k a, lT S O e d z G (kyO O e X) k a ↔ if e 3 (e 1 X) = 2 then k = d 3 (G (e 1 X)) ∧ a = 0 else e 3 (e 1 X) = 1 ∧ syT S O d z (e 4 (e 1 X)) k a := fun k a => lT_gl c3 g1.1
    simp only [lt]
    rw [ek] at hl ⊢
    have W : W32 (600 + e 1 X - 600) = e 1 X := by rw [W32_in (by omega) (by omega)]; omega
    have J191 : jlt t 1000 (H + 191) 600 (e 1 X) = some (e 3 (e 1 X)) := by rw [jlt_in g1.1 (by omega), q2]
    have J204 : jlt t 1000 (H + 204) 1200 (600 + e 1 X) = some l := by rw [jlt_in (by omega) (by omega), hl]
    rw [if_neg (by omega), W, jlt_in g1.1 (by omega), Option.bind_some, eu_X37_putLabel_21]; unfold du_X37_putLabel_21
    rw [if_neg (by omega), W, J191, Option.bind_some]
    by_cases c2 : e 3 (e 1 X) = 2
    · obtain ⟨⟨p0, p1⟩, -, pt⟩ := hR.2.1 (e 1 X) g1.1 g1.2 c2
      obtain ⟨-, -, ⟨d1, d2, d3⟩, -⟩ := vl.2.2.2.2.1 _ p0 p1
      have v0 := vl.1
      have lt' := pt.1
      have hk0 : 0 ≤ d 3 (G (e 1 X)) ∧ d 3 (G (e 1 X)) < d 0 1 := by omega
      have ok : (0 : Int) ≤ 0 ∧ (0 : Int) ≤ if d 5 (d 3 (G (e 1 X))) = 0 then d 6 (d 3 (G (e 1 X))) else 1 := by
        refine ⟨by decide, ?_⟩
        by_cases q : d 5 (d 3 (G (e 1 X))) = 0
        · rw [if_pos q]; exact ((vl.2.2.2.2.2.2.1 _ hk0.1 hk0.2).2.2.1 q).1
        · rw [if_neg q]; decide
      have J195 : jlt t 1000 (H + 195) 600 (e 1 X) = some (G (e 1 X)) := by rw [jlt_in g1.1 (by omega), hG _ g1.1 g1.2 c2]
      have J200 : jlt t 1000 (H + 200) 32 (G (e 1 X)) = some (d 3 (G (e 1 X))) := by rw [jlt_in p0 (by omega), (hz.2.1 _ p0 p1).1]
      obtain ⟨u, e1, cy, hw⟩ := t_lput hy vl ⟨l0, l1⟩ hk0 ok
      rw [if_pos c2, J204, Option.bind_some, J195, Option.bind_some, J200, Option.bind_some, e1, Option.bind_some]
      refine ⟨u, rfl, .inl ⟨_, _, ?_, vl.lp hk0 ok, cy⟩, hw⟩
      rw [if_pos c2]; exact ⟨rfl, rfl⟩
    · rw [if_neg c2, eu_X37_putLabel_74]; unfold du_X37_putLabel_74
      rw [if_neg (by omega), W, J191, Option.bind_some]
      by_cases c1 : e 3 (e 1 X) = 1
      · obtain ⟨⟨⟨hX4, -⟩, -⟩, -⟩ := mo c1
        rw [if_pos c1, q3 c1]
        obtain ⟨u, e1, h1, h2⟩ := t_putAt hk vl hy hz hR hX4 (by omega) (by omega) hl l0 l1
        rw [e1]
        refine ⟨u, rfl, ?_, h2⟩
        rcases h1 with ⟨-, k, a, a1, a2, a3⟩ | ⟨b1, b2⟩
        · exact .inl ⟨k, a, by rw [if_neg c2]; exact ⟨c1, a1⟩, a2, a3⟩
        · exact .inr ⟨fun k a q => by rw [if_neg c2] at q; exact b1 q.2.1, b2⟩
      · rw [if_neg c1]
        exact ⟨t, rfl, .inr ⟨fun k a q => by rw [if_neg c2] at q; exact c1 q.1, hy⟩, .rfl⟩
end jLpt
