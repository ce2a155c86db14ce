/-! the linker: branches, near and upper words relocated, both sides *-/
set_option maxRecDepth 100000
section jLf2
variable {s t u w' s' t' : jS} {a b k m n nn o p q v l x c f g i j A H C K S X P Q V rr n' sec w r how val q0 kd wc wt sz : Int} {O : Int → Int → Int → Int → Int} {d e z y : Int → Int → Int} {G B : Int → Int}
theorem jBd.sm {Q : Int} (h : jBd s P Q) (m : jSm s u) : jBd u P Q := by
  obtain ⟨-, -, m3, m4, m5, m6, -⟩ := m
  unfold jBd
  rw [m3, m4, m5, m6]
  exact h
/-- the word at hand: the component's, the twin's -/
def wdH (C : Int) (s : jS) (how nn wc wt : Int) : Prop := m_X35_wordAt s (C + 4275) nn = some wc ∧ jin wc ∧ jin wt ∧ ∀ r k, isKd wc r → isKd wt k → (tkW how k ↔ okW how nn wc r) ∧ (tkW how k → wt = wc)
theorem x_wantG (h : rlS C H S O s t e d z G) (hb : jBd s 1 6) (ha : atR C H s t x j 0 A) (x0 : 0 ≤ x) (x1 : x < 6) (j0 : 0 ≤ j) (j1 : j < 300) (hh : hwK how) (hn : nn = 2 ∨ nn = 4) (wg : wdH C s how nn wc wt) (m : Int) : ∃ k t1, m_X38_kind t (H + 4) wt = some (t1, k) ∧ tW6 H t t1 ∧ ((tkW how k ∧ wt = wc ∧ isKd wc k ∧ okW how nn wc k ∧ m_X35_wanted s (C + 4275) how nn = some (s, false, 0) ∧ m_X37_takes t1 how k = some 1) ∨ (¬ tkW how k ∧ m_X37_takes t1 how k = some 0 ∧ ∃ u e w, m_X35_wanted s (C + 4275) how nn = some (u, true, e) ∧ (∀ i, m_X35_fit s (C + 4275) how nn i = some (u, true, e)) ∧ m_X37_wrong t1 H 7 (300 * x + j) = some (w, 0) ∧ rwE C H s t 0 A m (u, true, e) (w, 0))) := by
  obtain ⟨hA, hj, hj', hrel⟩ := wg
  obtain ⟨r, e1, hk⟩ := c_kind h.2.1.1.1.1 hj
  obtain ⟨k, t1, -, e2, hk', w1, -⟩ := x_kind h.2.1 hj'
  obtain ⟨xw, xe⟩ := hrel r k hk hk'
  obtain ⟨y, e3, y01, y1⟩ := t_takes (t := t1) (r := k) hh
  obtain ⟨d1, d2⟩ := c_wantedR (n := nn) h.2.1.1.1 hk hj hA hh hn
  refine ⟨k, t1, e2, w1, ?_⟩
  by_cases c : tkW how k
  · have ew := xe c
    rw [ew] at hk'
    have := isKd_one hk hk'
    subst this
    exact .inl ⟨c, ew, hk, xw.mp c, d2 (xw.mp c), by rw [e3, y1.mpr c]⟩
  · obtain ⟨u, e', w', e4, e5, hx⟩ := x_no (m := m) (f := 7) (h.w6 w1) hb (ha.w6 w1) x0 x1 j0 j1 (by decide)
    have y0 : y = 0 := by
      rcases y01 with q | q
      · exact q
      · exact absurd (y1.mp q) c
    have nok : ¬ okW how nn wc r := fun q => c (xw.mpr q)
    exact .inr ⟨c, by rw [e3, y0], u, e', w', d1 nok u e' e4, fun i => (c_fitR (i := i) h.2.1.1.1 hk hj hA hh hn).1 nok u e' e4, e5, hx.pre w1⟩
theorem rwE.id {r : jS × Bool × Int} {q : jS × Int} (h : rwE C H s t sec A m r q) : jth r.2.1 (some (r.1, true, r.2.2)) (some (r.1, false, (0 : Int))) = some r ∧ Wz q.2 = q.2 := by
  obtain ⟨r1, r2, r3⟩ := r
  rcases h with ⟨g, g2⟩ | ⟨g, g2, -⟩
  · have : r2 = true := g2.1.1
    subst this
    exact ⟨rfl, by rw [g, Wz_0]⟩
  · have g2 : (r2, r3) = (false, 0) := g2
    cases g2
    exact ⟨rfl, by rw [g, Wz_1]⟩
theorem rwE.rs {r : jS × Bool × Int} {q : jS × Int} (g : rwE C H u t sec A m r q) (h : cRS C s u) (hb : ∀ o p, cBy u C o p = cBy s C o p) : rwE C H s t sec A m r q := by
  rcases g with ⟨g1, g2⟩ | ⟨g1, g2, g3, g4, g5, g6, g7⟩
  · exact .inl ⟨g1, g2.rs h.rw .rfl⟩
  · exact .inr ⟨g1, g2, h.trans g3, g4, g5, fun o' p' o0 o1 q => (g6 o' p' o0 o1 q).trans (hb o' p'), g7⟩
/-- a number tried in the word at hand -/
theorem x_fitG (h : rlS C H S O s t e d z G) (hb : jBd s 1 6) (ha : atR C H s t x j 0 A) (x0 : 0 ≤ x) (x1 : x < 6) (j0 : 0 ≤ j) (j1 : j < 300) (b0 : 0 ≤ A) (b1 : A + nn ≤ 4096) (hh : hwK how) (hn : nn = 2 ∨ nn = 4) (wg : wdH C s how nn wc wt) : ∃ r' q, m_X35_fit s (C + 4275) how nn i = some r' ∧ tFit t H (300 * x + j) how wt i = some q ∧ rwE C H s t 0 A nn r' q := by
  obtain ⟨k, t1, e2, w1, hc⟩ := x_wantG h hb ha x0 x1 j0 j1 hh hn wg nn
  unfold tFit
  rw [e2, Option.bind_some]
  dsimp only
  rcases hc with ⟨c, ew, hk, ok, -, e3⟩ | ⟨c, e3, u, e', w', -, ef, e5, hx⟩
  · obtain ⟨r', q, e4, e5, hq⟩ := x_fitL (i := i) (h.w6 w1) hb (ha.w6 w1) x0 x1 j0 j1 b0 b1 hk wg.2.1 wg.1 hh hn ok
    rw [e3, Option.bind_some, if_neg n10, ew, (ha.w6 w1).2.2, e5, Option.bind_some, hq.id.2]
    exact ⟨_, _, e4, rfl, hq.pre w1⟩
  · rw [e3, Option.bind_some, if_pos rfl, e5, Option.bind_some, Wz_0]
    exact ⟨_, _, ef i, rfl, hx⟩
/-- the twin's way to the words -/
theorem t_258 (h1 : ¬ kd = 1) (h3 : kd < 33 ∨ 39 < kd) : u_X37_relocate_173 t H n kd q0 V = u_X37_relocate_258 t H n kd q0 V := by
  have e239 : u_X37_relocate_239 t H n kd q0 V = u_X37_relocate_258 t H n kd q0 V := by
    rw [eu_X37_relocate_239]; unfold du_X37_relocate_239
    rw [if_neg h1]
    by_cases c : kd < 33
    · rw [if_pos c]
    · rw [if_neg c, if_pos (by omega)]
  rw [eu_X37_relocate_173]; unfold du_X37_relocate_173
  by_cases c : kd < 33
  · rw [if_pos c, e239]
  · rw [if_neg c, if_pos (by omega), e239]
theorem t_302 (h19 : ¬ kd = 19) (hK : jf t 41 H 114 = -1 ∨ ¬ jf t 41 H 114 = -1 ∧ ∃ sz, jlt t 1000 (H + 93 + 13) 256 (jf t 41 H 114) = some sz ∧ ¬ sz = 0) : u_X37_relocate_258 t H n kd q0 V = u_X37_relocate_302 t H n kd q0 V := by
  rw [eu_X37_relocate_258]; unfold du_X37_relocate_258
  rw [if_neg h19]
  rcases hK with q | ⟨q, sz, e, hz⟩
  · rw [if_pos q]
  · rw [if_neg q, e, Option.bind_some, if_neg hz]
/-- branches -/
theorem x_brs (h : rmS C H S O s t e d z G x j 0 A (-1) P) (hb : jBd s 1 6) (x0 : 0 ≤ x) (x1 : x < 6) (hS : sIn S x) (j0 : 0 ≤ j) (j1 : j < O x 2 2 0) (hk : O x 5 j 2 = 16 ∨ O x 5 j 2 = 17 ∨ O x 5 j 2 = 44 ∨ O x 5 j 2 = 45) (b0 : 0 ≤ A) (b1 : A + kW (O x 5 j 2) (O x 5 j 4) ≤ 4096) (hP : -10000000 ≤ P ∧ P ≤ 10000000) (hB : ∀ k, 0 ≤ k → k < kW (O x 5 j 2) (O x 5 j 4) → (0 ≤ tBy t H 0 (A + k) ∧ tBy t H 0 (A + k) < 256) ∧ cBy s C 0 (A + k) = sb (tBy t H 0 (A + k))) : ∃ r q, relT s (C + 4275) (rlA (fAt C x + 614) j) m 0 = some r ∧ u_X37_relocate_128 t H (300 * x + j) (O x 5 j 2) q0 = some q ∧ rwE C H s t 0 A (kW (O x 5 j 2) (O x 5 j 4)) r q := by
  obtain ⟨val, u, vj, -, R, By, hm, ⟨c39, c40⟩, ec, et⟩ := x_relV (m := m) h x0 x1 hS j0 j1 (by omega) (by omega)
  obtain ⟨⟨r0, r1⟩, ⟨l0, l1, l2, l3, l4⟩, hut, vo, g, j3⟩ := hm.1.rl x0 x1 hS j0 j1
  obtain ⟨-, -, ad⟩ := rl_tgt (S := S) vo g x0 x1 hS j0 j1 (by omega) (by omega)
  have v0 := vj.1
  have v1 := vj.2
  have a0 := ad.1
  have a1 := ad.2
  obtain ⟨b, hbb⟩ : ∃ b, b = rlA (fAt C x + 614) j := ⟨_, rfl⟩
  obtain ⟨V, hV⟩ : ∃ V, V = val + O x 5 j 4 := ⟨_, rfl⟩
  rw [← hbb] at r0 r1 l2 ec
  rw [← hV] at c40 et
  rw [← hbb]
  have kw : kW (O x 5 j 2) (O x 5 j 4) = if O x 5 j 2 = 16 ∨ O x 5 j 2 = 17 then 4 else 2 := by
    rcases hk with z | z | z | z <;> rw [z] <;> simp [kW]
  obtain ⟨nn, hnn⟩ : ∃ nn, nn = kW (O x 5 j 2) (O x 5 j 4) := ⟨_, rfl⟩
  have hn : nn = 2 ∨ nn = 4 := by rw [hnn, kw]; split <;> simp
  have h44 : O x 5 j 2 = 44 ∨ O x 5 j 2 = 45 ↔ nn = 2 := by rw [hnn, kw]; split <;> omega
  have hut0 := (h.1.rl x0 x1 hS j0 j1).2.2.1
  have hA : m_X35_wordAt u (C + 4275) nn = some (W32 (leN (fun k => tBy t H 0 (A + k)) nn.toNat)) := c_wordA hm.1.2.2.2 hm.2.1.1.2.2 b0 (by omega) (by omega) (fun k k0 k1 => (hB k k0 (by omega)).1) fun k k0 k1 => by
    show cBy u C 0 (A + k) = _
    rw [By]; exact (hB k k0 (by omega)).2
  have wF := t_wordP (A := A) (m := 0) (nn := nn) hut0 vo x0 x1 j0 j1 (by omega) h.2.2.2.1 h.2.1.2.2 b0 (by decide) (by decide) hn (by rw [← hnn]; omega) (by rw [← hnn]; omega) (by omega) (fun k k0 k1 => by rw [Int.add_zero]; exact (hB k k0 (by omega)).1)
  rw [Int.add_zero] at wF
  have wg : wdH C u (O x 5 j 2) nn (W32 (leN (fun k => tBy t H 0 (A + k)) nn.toNat)) (twW nn (fun k => tBy t H 0 (A + k))) := ⟨hA, W32_lo _, twW_in (fun k k0 k1 => (hB k k0 (by omega)).1) hn, fun r k hr hk' => x_word (fun k k0 k1 => (hB k k0 (by omega)).1) hn h44 hr hk'⟩
  obtain ⟨r', q, e1, e2, hq⟩ := x_fitG (i := V - P) hm.1 (hb.sm R.1) hm.2.1 x0 x1 j0 j3 b0 (by omega) (by omega) hn wg
  refine ⟨r', q, ?_, ?_, by rw [← hnn]; exact hq.rs R By⟩
  · rw [ec]
    have e400 : O x 5 j 2 = 16 ∨ O x 5 j 2 = 17 → u_X35_relocate_400 u (C + 4275) b = some r' := fun hk2 => by
      have n4 : nn = 4 := by omega
      rw [n4] at e1
      rw [eu_X35_relocate_400]; unfold du_X35_relocate_400
      rw [jrd_in r0 r1, Option.bind_some, l2, c40, hm.2.2.1.2, W64_in (by omega) (by omega), e1, Option.bind_some, hq.id.1]
    have e419 : O x 5 j 2 = 44 ∨ O x 5 j 2 = 45 → u_X35_relocate_419 u (C + 4275) b = some r' := fun hk2 => by
      have n4 : nn = 2 := by omega
      rw [n4] at e1
      rw [eu_X35_relocate_419]; unfold du_X35_relocate_419
      rw [jrd_in r0 r1, Option.bind_some, l2, c40, hm.2.2.1.2, W64_in (by omega) (by omega), e1, Option.bind_some, hq.id.1]
    unfold relK
    generalize hkk : O x 5 j 2 = kd at *
    clear l2 et ec hB b1
    rcases hk with rfl | rfl | rfl | rfl
    · simp only [eq_self, and_false, false_and, and_true, true_and, if_true, if_false, reduceIte, Int.reduceEq, Int.reduceLT, Int.reduceLE, Int.reduceNeg, not_false_eq_true, Option.bind_some, jls]; exact e400 (.inl rfl)
    · simp only [eq_self, and_false, false_and, and_true, true_and, if_true, if_false, reduceIte, Int.reduceEq, Int.reduceLT, Int.reduceLE, Int.reduceNeg, not_false_eq_true, Option.bind_some, jls]; exact e400 (.inr rfl)
    · simp only [eq_self, and_false, false_and, and_true, true_and, if_true, if_false, reduceIte, Int.reduceEq, Int.reduceLT, Int.reduceLE, Int.reduceNeg, not_false_eq_true, Option.bind_some, jls]; exact e419 (.inl rfl)
    · simp only [eq_self, and_false, false_and, and_true, true_and, if_true, if_false, reduceIte, Int.reduceEq, Int.reduceLT, Int.reduceLE, Int.reduceNeg, not_false_eq_true, Option.bind_some, jls]; exact e419 (.inr rfl)
  · rw [et, if_neg (by omega), t_258 (by omega) (by omega), t_302 (by omega) (.inl h.2.2.2.1), eu_X37_relocate_302]; unfold du_X37_relocate_302
    rw [wF, Option.bind_some]
    unfold tFit at e2
    obtain ⟨k, t1, e3, w1, -⟩ := x_wantG hm.1 (hb.sm R.1) hm.2.1 x0 x1 j0 j3 (by omega) hn wg nn
    have e116 : jf t1 41 H 116 = P := by rw [w1.2 _ _ _ (by omega)]; exact h.2.2.2.2
    have e468 : u_X37_relocate_468 t1 H (300 * x + j) V (twW nn (fun k => tBy t H 0 (A + k))) = (m_X37_fitted t1 H (300 * x + j) (jf t1 41 H 115) (twW nn (fun k => tBy t H 0 (A + k))) (V - P)).bind fun q1 => some (q1.1, Wz q1.2) := by
      rw [eu_X37_relocate_468]; unfold du_X37_relocate_468
      rw [e116, W64_in (by omega) (by omega)]
    rw [e3, Option.bind_some] at e2 ⊢
    dsimp only at e2 ⊢
    rw [← e2]
    congr 1
    funext v3
    by_cases c : v3 = 0
    · rw [if_pos c, if_pos c]
    · rw [if_neg c, if_neg c, ← e468]
      generalize hkk : O x 5 j 2 = kd at *
      clear l2 et ec hB b1
      rcases hk with rfl | rfl | rfl | rfl <;> simp only [eq_self, and_false, false_and, and_true, true_and, if_true, if_false, reduceIte, Int.reduceEq, Int.reduceLT, Int.reduceLE, Int.reduceNeg, not_false_eq_true, Option.bind_some, jls]
end jLf2
