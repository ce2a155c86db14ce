/-! the linker: the component puts a label *-/
set_option maxRecDepth 100000
section jLpl
variable {s t u w r s' t' s0 t0 q' : jS} {a b g k m n p v l x y0 c j X f i H B C P Q P' Q' S N M K K' : Int} {O : Int → Int → Int → Int → Int} {o : Int → Int → Int → Int} {d d' e z y : Int → Int → Int} {G : Int → Int}
theorem lT_lo (hX : vsy S O X) (h : sy O X 3 = 0) : lT S O e d z G (kyO O e X) k a ↔ syT S O d z X k a := by
  have := hX.1
  unfold lT kyO
  rw [if_pos h, if_pos (by omega)]
theorem lT_gl (h : ¬ sy O X 3 = 0) (h0 : 0 ≤ e 1 X) : lT S O e d z G (kyO O e X) k a ↔ if e 3 (e 1 X) = 2 then k = d 3 (G (e 1 X)) ∧ a = 0 else e 3 (e 1 X) = 1 ∧ syT S O d z (e 4 (e 1 X)) k a := by
  unfold lT kyO
  rw [if_neg h, if_neg (by omega), show 600 + e 1 X - 600 = e 1 X by omega]
theorem c_putLab (hk : lkB C H S O s t) (hg : gGc C S O s e) (gv : gFv S O e) (yo : yOK S O e d y) (hc : cLz C S O s e d y) (vl : vLy d) (hy : cLy s (C + 4275 + 1) d) (hz : cPz C s d z) (hR : lpR H S O t d z e G) (hG : ∀ g, 0 ≤ g → g < e 0 0 → e 3 g = 2 → jf s 1000 (C + 4275 + 22) g = G g) (l0 : 0 ≤ l) (l1 : l < d 0 2) : ∃ u, m_X35_putLabel s (C + 4275) l = some (u, 0) ∧ ((∃ k a, lT S O e d z G (kyO O e (y 1 l)) k a ∧ vLy (dLp d l k a) ∧ cLy u (C + 4275 + 1) (dLp d l k a)) ∨ ((∀ k a, ¬ lT S O e d z G (kyO O e (y 1 l)) k a) ∧ cLy u (C + 4275 + 1) d)) ∧ cBW C s u 0 0 ∧ ∀ c a k, ¬ lKs c → ¬ (c = 1000 ∧ C + 4284 ≤ a ∧ a ≤ C + 4287) → jf u c a k = jf s c a k := by
  obtain ⟨X, hXe⟩ : ∃ X, X = y 1 l := ⟨_, rfl⟩
  obtain ⟨hX, -⟩ := yo.2 l l0 l1
  have r3 := hc.2.2.2 l l0 l1
  rw [← hXe] at hX r3 ⊢
  have hX0 := hX.1
  have v2 := vl.2.2.1
  have J31 : jlt s 1000 (C + 4275 + 31) 64 l = some (X / 100) := by rw [jlt_in l0 (by omega), r3.1]
  have J32 : jlt s 1000 (C + 4275 + 32) 64 l = some (X % 100) := by rw [jlt_in l0 (by omega), r3.2]
  have J14 : jlt s 1000 (C + 4275 + 14) 600 X = some (if sy O X 3 = 0 then -1 else e 1 X) := by rw [jlt_in (by omega) (by omega), hg.2.1 X hX]
  rw [em_X35_putLabel]; unfold dm_X35_putLabel
  rw [J31, Option.bind_some, J32, Option.bind_some, W32_in (z := 100 * (X / 100)) (by omega) (by omega), W32_in (by omega) (by omega), show 100 * (X / 100) + X % 100 = X by omega, J14, Option.bind_some]
  by_cases c3 : sy O X 3 = 0
  · rw [if_pos c3, if_pos rfl, eu_X35_putLabel_73]; unfold du_X35_putLabel_73
    rw [if_pos rfl, (hk.sym hX).1, Option.bind_some]
    obtain ⟨u, e1, h1, h2, h3⟩ := c_putAt hk vl hy hz hR hX l0 l1
    rw [e1, Option.bind_some]
    refine ⟨u, rfl, ?_, h2, h3⟩
    rcases h1 with ⟨-, k, a, a1, a2, a3⟩ | ⟨b1, b2⟩
    · exact .inl ⟨k, a, (lT_lo hX c3).mpr a1, a2, a3⟩
    · exact .inr ⟨fun k a q => b1 ((lT_lo hX c3).mp q).1, b2⟩
  · have g1 := gv.2.2 X ⟨hX, c3⟩
    have e6 := gv.1.2.1
    obtain ⟨-, ⟨m0, m1⟩, mo, -⟩ := gv.2.1 (e 1 X) g1.1 g1.2
    obtain ⟨-, q2, q3, -⟩ := hg.2.2 (e 1 X) g1.1 g1.2
    have J17 : jlt s 1000 (C + 4275 + 17) 600 (e 1 X) = some (hC (e 3 (e 1 X))) := by rw [jlt_in g1.1 (by omega), q2]
    rw [if_neg c3, if_neg (by omega), J17, Option.bind_some]
    have hv : (hC (e 3 (e 1 X)) = 1 ↔ e 3 (e 1 X) = 2) ∧ (hC (e 3 (e 1 X)) = 0 ↔ e 3 (e 1 X) = 1) := by
      unfold hC
      have : e 3 (e 1 X) = 0 ∨ e 3 (e 1 X) = 1 ∨ e 3 (e 1 X) = 2 ∨ e 3 (e 1 X) = 3 ∨ e 3 (e 1 X) = 4 := by omega
      rcases this with q | q | q | q | q <;> rw [q] <;> decide
    by_cases c2 : e 3 (e 1 X) = 2
    · obtain ⟨⟨p0, p1⟩, -, pt⟩ := hR.2.1 (e 1 X) g1.1 g1.2 c2
      obtain ⟨-, -, ⟨d1, d2, d3⟩, -⟩ := vl.2.2.2.2.1 _ p0 p1
      have v0 := vl.1
      have lt := pt.1
      have hk0 : 0 ≤ d 3 (G (e 1 X)) ∧ d 3 (G (e 1 X)) < d 0 1 := by omega
      have ok : (0 : Int) ≤ 0 ∧ (0 : Int) ≤ if d 5 (d 3 (G (e 1 X))) = 0 then d 6 (d 3 (G (e 1 X))) else 1 := by
        refine ⟨by decide, ?_⟩
        by_cases q : d 5 (d 3 (G (e 1 X))) = 0
        · rw [if_pos q]; exact ((vl.2.2.2.2.2.2.1 _ hk0.1 hk0.2).2.2.1 q).1
        · rw [if_neg q]; decide
      have J22 : jlt s 1000 (C + 4275 + 22) 600 (e 1 X) = some (G (e 1 X)) := by rw [jlt_in g1.1 (by omega), hG _ g1.1 g1.2 c2]
      have J29 : jlt s 1000 (C + 4275 + 29) 32 (G (e 1 X)) = some (d 3 (G (e 1 X))) := by rw [jlt_in p0 (by omega), (hz.2.2 _ p0 p1).1]
      obtain ⟨u, e1, cy, m', F'⟩ := c_lputY hy vl ⟨l0, l1⟩ hk0 ok
      rw [if_pos (hv.1.mpr c2), J22, Option.bind_some, J29, Option.bind_some, e1, Option.bind_some]
      refine ⟨u, rfl, .inl ⟨_, _, (lT_gl c3 g1.1).mpr ?_, vl.lp hk0 ok, cy⟩, ⟨jGw.sm m' fun c a k hA => F' c a k (fun z => hA (.inr (by omega))), fun c a k q1 _ _ _ _ => F' c a k (by omega)⟩, fun c a k q1 _ => F' c a k (by omega)⟩
      rw [if_pos c2]; exact ⟨rfl, rfl⟩
    · rw [if_neg (fun q => c2 (hv.1.mp q)), eu_X35_putLabel_73]; unfold du_X35_putLabel_73
      rw [if_neg (by omega), J17, Option.bind_some]
      by_cases c1 : e 3 (e 1 X) = 1
      · obtain ⟨⟨⟨hX4, -⟩, -⟩, -⟩ := mo c1
        obtain ⟨a18, a19⟩ := q3 c1
        have J18 : jlt s 1000 (C + 4275 + 18) 600 (e 1 X) = some (e 4 (e 1 X) / 100) := by rw [jlt_in g1.1 (by omega), a18]
        have J19 : jlt s 1000 (C + 4275 + 19) 600 (e 1 X) = some (e 4 (e 1 X) % 100) := by rw [jlt_in g1.1 (by omega), a19]
        rw [if_pos (hv.2.mpr c1), J18, Option.bind_some, Option.bind_some, J19, Option.bind_some, (hk.sym hX4).1, Option.bind_some]
        obtain ⟨u, e1, h1, h2, h3⟩ := c_putAt hk vl hy hz hR hX4 l0 l1
        rw [e1, Option.bind_some]
        refine ⟨u, rfl, ?_, h2, h3⟩
        rcases h1 with ⟨-, k, a, a1, a2, a3⟩ | ⟨b1, b2⟩
        · exact .inl ⟨k, a, (lT_gl c3 g1.1).mpr (by rw [if_neg c2]; exact ⟨c1, a1⟩), a2, a3⟩
        · refine .inr ⟨fun k a q => ?_, b2⟩
          have := (lT_gl c3 g1.1).mp q
          rw [if_neg c2] at this
          exact b1 this.2.1
      · rw [if_neg (fun q => c1 (hv.2.mp q))]
        refine ⟨s, rfl, .inr ⟨fun k a q => ?_, hy⟩, .rfl, fun _ _ _ _ _ => rfl⟩
        have := (lT_gl c3 g1.1).mp q
        rw [if_neg c2] at this
        exact c1 this.1
end jLpl
