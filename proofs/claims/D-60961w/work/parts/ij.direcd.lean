/-! directives: alignment, put together *-/
set_option maxRecDepth 100000
section jDirecd
variable {s t u w t' s1 t1 : jS} {v A H b lo W k c a hh x y f d n o j e i p pl g' : Int} {NL : List (List Int)} {I : pI} {OL : List pvO} {SL : List pvS} {z : pvS} {zo : pvO} {Q Q' : jS → jS → Int → Prop} {q : jS × Bool × Int} {r : jS}
/-- filling up, both sides -/
theorem blank_al (h : AG s t A H b lo NL I OL SL k z) (hp : p = 1 ∨ p = 2 ∨ p = 4 ∨ p = 8 ∨ p = 16 ∨ p = 32 ∨ p = 64) (hn : n = (-jf t 1000 (H + 153) (jf t 41 H 34)) % p) : stO s t A H b lo NL I OL SL k z (m_X33_blank s A n) (u_X37_align_175 t H p) (dQ t H) := by
  have p0 : 1 ≤ p ∧ p ≤ 64 := by omega
  have n0 : 0 ≤ n := by rw [hn]; exact Int.emod_nonneg _ (by omega)
  have np : n < p := by rw [hn]; exact Int.emod_lt_of_pos _ (by omega)
  have a30 := h.1.2.2.2.1.2.2.2.1.1
  obtain ⟨m, hm, -⟩ := nat_of n0
  rw [em_X33_blank]; unfold dm_X33_blank
  rw [a30.1]
  by_cases c3 : jf t 41 H 34 = 3
  rotate_left
  · rw [if_neg c3]
    have := al_loop (n := n) p0.1 p0.2 m s t 0 h a30.2.1 (by omega) (by omega) (by omega) (by omega) (by rw [← hn]; exact hm)
    exact this.mono fun a b c q => q.2.1 _ _ _ (by omega)
  obtain ⟨q1, q2, q3⟩ := h.1.sz3
  rw [c3] at hn
  have le : jf t 1000 (H + 153) 3 + n ≤ 4096 := by
    rcases hp with rfl | rfl | rfl | rfl | rfl | rfl | rfl <;> omega
  obtain ⟨w, d1, d2⟩ := al_loop3 (H := H) p0.1 p0.2 m t c3 q2 (by omega) (by rw [← hn]; exact hm)
  rw [← hm] at d2
  rw [if_pos c3, jlt_in (by decide) (by decide), Option.bind_some, q1, W32_in (by omega) (by omega), if_neg (by omega), eu_X33_blank_28]; unfold du_X33_blank_28
  rw [needOk (by decide)]
  dsimp only
  rw [jth_ff, jlt_in (by decide) (by decide), Option.bind_some, q1, W32_in (by omega) (by omega), jst_in (by decide) (by decide), Option.bind_some]
  obtain ⟨u1, E1⟩ : ∃ u1, u1 = jp s 1000 (A + 7) 3 (jf t 1000 (H + 153) 3 + n) := ⟨_, rfl⟩
  rw [← E1]
  obtain ⟨a1, a2⟩ := h.b3 E1 d2 (by omega) (by omega)
  exact .inr ⟨u1, w, 0, rfl, d1, a1, a2, d2.1, d2.2.2 _ _ _ (by omega)⟩
theorem al_tail (h : AG s t A H b lo NL I OL SL k z) (x0 : 0 ≤ x) (x6 : x ≤ 6) (hy : y = 2 ∨ y = 4) : stO s t A H b lo NL I OL SL k z (u_X33_align_89 s A x y) (u_X37_align_88 t H (2 ^ x.toNat) y) (dQ t H) := by
  have hp : (2 : Int) ^ x.toNat = 1 ∨ (2 : Int) ^ x.toNat = 2 ∨ (2 : Int) ^ x.toNat = 4 ∨ (2 : Int) ^ x.toNat = 8 ∨ (2 : Int) ^ x.toNat = 16 ∨ (2 : Int) ^ x.toNat = 32 ∨ (2 : Int) ^ x.toNat = 64 := by
    have : x = 0 ∨ x = 1 ∨ x = 2 ∨ x = 3 ∨ x = 4 ∨ x = 5 ∨ x = 6 := by omega
    rcases this with rfl | rfl | rfl | rfl | rfl | rfl | rfl <;> decide
  have am := fun zz : Int => I_and_m zz x.toNat (by omega)
  have sh : I_shl 1 x = 2 ^ x.toNat := by
    rw [i_shl_p x0 (by omega), Int.one_mul]
    generalize (2 : Int) ^ x.toNat = p at hp
    exact W32_in (by omega) (by omega)
  have am' : ∀ zz : Int, I_and zz (2 ^ x.toNat - 1) = zz % 2 ^ x.toNat := am
  obtain ⟨⟨a30, c0⟩, aB, -⟩ := h.1.2.2.2.1.2.2.2.1
  have hB := aB (jf t 41 H 34) c0.1 (by omega)
  have hs : szM (jf t 41 H 34) ≤ 4096 := by unfold szM; split <;> omega
  rw [eu_X33_align_89, eu_X37_align_88]; unfold du_X33_align_89 du_X37_align_88
  rw [sh, a30]
  generalize (2 : Int) ^ x.toNat = p at hp am'
  by_cases cs : jf t 41 H 34 = 0
  · rw [cs] at hB hs
    rw [if_pos cs, if_pos cs, jlt_in (by decide) (by decide), jlt_in (by decide) (by decide)]
    simp only [jlet, Option.bind_some]
    rw [W32_in (by omega) (by omega), hB.1]
    by_cases c : 0 < p - y
    · rw [if_pos c, if_pos c]
      exact nop2 h (by omega) (by omega) (by omega)
    · rw [if_neg c, if_neg c, Wz_1]
      exact .ret h rfl
  · rw [if_neg cs, if_neg cs, jlt_in (by omega) (by omega), Option.bind_some, hB.1, W32_in (z := p - 1) (by omega) (by omega), am', W32_in (by omega) (by omega)]
    rcases blank_al h hp rfl with ⟨q, r, e1, e2, e3⟩ | ⟨u', w', v', e1, e2, e3, e4, e5, e6⟩
    · exact .inl ⟨q, r, by rw [e1, Option.bind_some, e3.th]; rfl, e2, e3⟩
    · refine .inr ⟨u', w', 0, ?_, e2, e3, e4, e5, e6⟩
      rw [e1, Option.bind_some]
      dsimp only
      rw [jth_ff]
theorem align2 (h : AG s t A H b lo NL I OL SL k z) : stO s t A H b lo NL I OL SL k z (m_X33_align s A) (m_X37_align t H) (dQ t H) := by
  rw [em_X33_align, em_X37_align]; unfold dm_X33_align dm_X37_align
  rw [h.2.1.2.2.1, y_are h, Option.bind_some]
  have e0 : z.2.2.1 + 0 = z.2.2.1 := by omega
  have bd : stO s t A H b lo NL I OL SL k z (u_X33_align_21 s A A) ((m_X37_fail t H 12).bind fun q2 => some (q2.1, Wz q2.2)) (dQ t H) := by
    rw [eu_X33_align_21]; unfold du_X33_align_21
    rw [eu_X33_align_22]; unfold du_X33_align_22
    exact .bad0 h (by decide) fun _ _ => rfl
  dsimp only
  by_cases c : z.2.2.2.1 = 1
  rotate_left
  · rw [if_neg c, if0 (fun e => c e.1), if_pos rfl]; exact bd
  rw [if_pos c, c_isX h (by decide) (by omega), Option.bind_some]
  by_cases cx : opSr 0 (tO OL (z.2.2.1 + 0))
  rotate_left
  · rw [if0 cx, if_pos rfl, if0 (fun e => cx (by rw [e0]; exact e.2.1 (by decide))), if_pos rfl]; exact bd
  rw [if1 cx, if_neg n10, if1 ⟨c, fun _ => by rw [e0] at cx; exact cx, fun e => absurd e (by decide), fun e => absurd e (by decide)⟩, if_neg n10, eu_X33_align_22]; unfold du_X33_align_22
  rw [needOk (by decide)]
  dsimp only
  rw [jth_ff, h.2.1.2.1]
  have hs : stO s t A H b lo NL I OL SL k z _ ((m_X37_within t H (z.2.2.1 + 0) 0 6).bind fun q3 => if q3.2 = 0 then some (q3.1, Wz 0) else jlet (I_shl 1 (jf q3.1 41 H 52)) fun v4 => (jlt q3.1 1000 (H + 154) 4 (jf q3.1 41 H 34)).bind fun v5 => if v5 < v4 then u_X37_align_75 q3.1 H v4 v4 (jf q3.1 41 H 34) (H + 154) else (jlt q3.1 1000 (H + 154) 4 (jf q3.1 41 H 34)).bind fun v6 => u_X37_align_75 q3.1 H v4 v6 (jf q3.1 41 H 34) (H + 154)) (dQ t H) := within2 (g := fun u1 d1 => (jlt u1 1000 (A + 8) 4 (jf u1 37 A 30)).bind fun v2 => (jst u1 1000 (A + 8) 4 (jf u1 37 A 30) (jmx v2 d1)).bind fun s3 => if (jf s3 37 A 39) = 0 then u_X33_align_89 s3 A d1 4 else u_X33_align_89 s3 A d1 2) (f := fun q2 => jth q2.2.1 (some (q2.1, true, q2.2.2)) (if q2.2.2 < 0 then u_X33_align_48 q2.1 A q2.2.2 A else if 6 < q2.2.2 then u_X33_align_48 q2.1 A q2.2.2 A else u_X33_align_49 q2.1 A q2.2.2 1 A)) (o := 15) h (by decide) (by omega) (.inl cx.1) (fun _ _ => rfl) (fun u1 d1 => by
    dsimp only
    rw [jth_ff, eu_X33_align_48, eu_X33_align_49]; unfold du_X33_align_48
    rw [eu_X33_align_49]; unfold du_X33_align_49
    rfl) rfl (fun r => by dsimp only; rw [if_pos rfl, Wz_0]) fun u1 w1 d1 a1 b1 b2 ⟨v1, v2, v3, v4, v5⟩ hd hx1 hx2 hpl => by
    dsimp only
    rw [if_neg n10, ← hd]
    simp only [jlet]
    obtain ⟨⟨a30, c0⟩, aB, -⟩ := a1.1.2.2.2.1.2.2.2.1
    obtain ⟨-, -, hB6, hB2⟩ := aB (jf w1 41 H 34) c0.1 (by omega)
    have a39 := a1.1.2.2.2.1.2.2.2.2.2.2.1.2.2.1
    have pw : ∀ y : Int, 0 ≤ y → y ≤ 6 → (2 : Int) ^ y.toNat ≤ 64 ∧ 1 ≤ (2 : Int) ^ y.toNat := fun y y0 y6 => by
      have : y = 0 ∨ y = 1 ∨ y = 2 ∨ y = 3 ∨ y = 4 ∨ y = 5 ∨ y = 6 := by omega
      rcases this with rfl | rfl | rfl | rfl | rfl | rfl | rfl <;> decide
    have sh : I_shl 1 d1 = 2 ^ d1.toNat := by
      rw [i_shl_p hx1 (by omega), Int.one_mul]
      have := pw d1 hx1 hx2
      exact W32_in (by omega) (by omega)
    rw [sh, jlt_in c0.1 (by omega), Option.bind_some, Option.bind_some, hB2, a30, jlt_in c0.1 (by omega), Option.bind_some, jst_in c0.1 (by omega), Option.bind_some]
    generalize hal : jf u1 1000 (A + 8) (jf w1 41 H 34) = al at *
    have cmp : (2 : Int) ^ al.toNat < 2 ^ d1.toNat ↔ al < d1 := by
      have h1 : al = 0 ∨ al = 1 ∨ al = 2 ∨ al = 3 ∨ al = 4 ∨ al = 5 ∨ al = 6 := by omega
      have h2 : d1 = 0 ∨ d1 = 1 ∨ d1 = 2 ∨ d1 = 3 ∨ d1 = 4 ∨ d1 = 5 ∨ d1 = 6 := by omega
      clear hal hd v1 v2 v3 v4 v5 hB2 sh pw
      rcases h1 with rfl | rfl | rfl | rfl | rfl | rfl | rfl <;> rcases h2 with rfl | rfl | rfl | rfl | rfl | rfl | rfl <;> decide
    have mx : (if (2 : Int) ^ al.toNat < 2 ^ d1.toNat then u_X37_align_75 w1 H (2 ^ d1.toNat) (2 ^ d1.toNat) (jf w1 41 H 34) (H + 154) else u_X37_align_75 w1 H (2 ^ d1.toNat) (2 ^ al.toNat) (jf w1 41 H 34) (H + 154)) = u_X37_align_75 w1 H (2 ^ d1.toNat) (2 ^ (jmx al d1).toNat) (jf w1 41 H 34) (H + 154) := by
      unfold jmx
      by_cases cc : al < d1
      · rw [if_pos (cmp.mpr cc), if_pos cc]
      · rw [if_neg (fun e => cc (cmp.mp e)), if_neg cc]
    rw [mx, eu_X37_align_75]; unfold du_X37_align_75
    rw [jst_in c0.1 (by omega), Option.bind_some]
    have mb : 0 ≤ jmx al d1 ∧ jmx al d1 ≤ 6 := by unfold jmx; split <;> omega
    obtain ⟨u2, E2⟩ : ∃ u2, u2 = jp u1 1000 (A + 8) (jf w1 41 H 34) (jmx al d1) := ⟨_, rfl⟩
    obtain ⟨w2, G2⟩ : ∃ w2, w2 = jp w1 1000 (H + 154) (jf w1 41 H 34) (2 ^ (jmx al d1).toNat) := ⟨_, rfl⟩
    obtain ⟨k1, k2, k3⟩ := a1.al rfl E2 G2 mb.1 mb.2
    have f2 := (jpF E2).1
    have g2 := (jpF G2).1
    rw [← E2, ← G2, f2 37 A 39 (by omega), g2 41 H 35 (by omega), a39.1]
    have w26 : jf w2 41 H 26 = jf t 41 H 26 := by rw [g2 _ _ _ (by omega), v2 _ _ _ (by omega) (by omega)]
    have go : ∀ y', y' = 2 ∨ y' = 4 → stO u1 w1 A H b lo NL I OL SL k z (u_X33_align_89 u2 A d1 y') (u_X37_align_88 w2 H (2 ^ d1.toNat) y') (dQ t H) := fun y' hy => by
      rcases al_tail k1 hx1 hx2 hy with ⟨q, r, d1, d2, d3⟩ | ⟨u', w', v', d1, d2, d3, d4, d5, d6⟩
      · exact .inl ⟨q, r, d1, d2, d3.after k2 k3⟩
      · refine .inr ⟨u', w', v', d1, d2, d3, (k2.trans d4 : cFa A u1 u' (0 + 0) (0 + 0)), k3.trans d5, ?_⟩
        have d6' : jf w' 41 H 26 = jf w2 41 H 26 := d6
        show jf w' 41 H 26 = jf t 41 H 26
        rw [d6', w26]
    by_cases c39 : jf w1 41 H 35 = 0
    · rw [if_pos c39, if_pos c39]; exact go 4 (.inr rfl)
    · rw [if_neg c39, if_neg c39]; exact go 2 (.inl rfl)
  rw [e0] at hs
  exact hs
end jDirecd
