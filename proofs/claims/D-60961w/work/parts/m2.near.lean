/-! the linker: near words and upper words relocated, both sides *-/
set_option maxRecDepth 100000
section jLnr
variable {s t u w' s' t' t1 : jS} {a b k m n nn o p q v l x c f g i j A H C K S X P Q V D rr n' sec w r how val q0 kd wc wt sz : Int} {O : Int → Int → Int → Int → Int} {d e z y : Int → Int → Int} {G B : Int → Int}
/-- the word at hand of a plain piece -/
theorem x_wdP (hO : outK C u) (c38 : jf u 39 (C + 4275) 38 = A + m) (hu : tUn t H x (O x)) (vo : vOb (O x)) (x0 : 0 ≤ x) (x1 : x < 6) (j0 : 0 ≤ j) (j1 : j < O x 2 2 0) (h51 : ¬ O x 5 j 2 = 51) (hK : jf t 41 H 114 = -1) (ha : jf t 41 H 115 = 4096 * 0 + A) (b0 : 0 ≤ A) (m0 : 0 ≤ m) (m1 : m ≤ 8) (hnn : nn = 2 ∨ nn = 4) (hkw : (nn = 4 ↔ ¬ kW (O x 5 j 2) (O x 5 j 4) - m < 4)) (kw : 0 ≤ kW (O x 5 j 2) (O x 5 j 4) ∧ kW (O x 5 j 2) (O x 5 j 4) ≤ 100) (b1 : A + m + nn ≤ 4096) (h44 : how = 44 ∨ how = 45 ↔ nn = 2) (hB : ∀ k, 0 ≤ k → k < nn → (0 ≤ tBy t H 0 (A + m + k) ∧ tBy t H 0 (A + m + k) < 256) ∧ cBy u C 0 (A + m + k) = sb (tBy t H 0 (A + m + k))) : ∃ wc wt, wdH C u how nn wc wt ∧ m_X37_wordFor t H (300 * x + j) m = some wt :=
  ⟨_, _, ⟨c_wordA hO c38 (by omega) (by omega) (by omega) (fun k k0 k1 => (hB k k0 k1).1) fun k k0 k1 => (hB k k0 k1).2, W32_lo _, twW_in (fun k k0 k1 => (hB k k0 k1).1) hnn, fun r k hr hk' => x_word (fun k k0 k1 => (hB k k0 k1).1) hnn h44 hr hk'⟩, t_wordP hu vo x0 x1 j0 j1 h51 hK ha b0 m0 m1 hnn hkw kw b1 fun k k0 k1 => (hB k k0 k1).1⟩
/-- and of a piece that is its own -/
theorem x_wdO (hO : outK C u) (c38 : jf u 39 (C + 4275) 38 = A + m) (hu : tUn t H x (O x)) (vo : vOb (O x)) (g : gOb (O x)) (x0 : 0 ≤ x) (x1 : x < 6) (j0 : 0 ≤ j) (j1 : j < O x 2 2 0) (hK : ¬ jf t 41 H 114 = -1) (hx : jf t 41 H 113 = x) (b0 : 0 ≤ A) (m0 : 0 ≤ m) (m1 : m ≤ 8) (b1 : A + m + 4 ≤ 4096) (hm : O x 5 j 1 + m + 4 ≤ O x 1 0 0) (h44 : ¬ (how = 44 ∨ how = 45)) (hB : ∀ k, 0 ≤ k → k < 4 → cBy u C 0 (A + m + k) = sb (O x 0 0 (O x 5 j 1 + m + k))) : wdH C u how 4 (uW (O x) (O x 5 j 1 + m)) (uW (O x) (O x 5 j 1 + m)) ∧ m_X37_wordFor t H (300 * x + j) m = some (uW (O x) (O x 5 j 1 + m)) := by
  obtain ⟨-, l1, -⟩ := rel_lo vo g j0 j1
  have BB : ∀ k, 0 ≤ k → k < 4 → 0 ≤ O x 0 0 (O x 5 j 1 + m + k) ∧ O x 0 0 (O x 5 j 1 + m + k) < 256 := fun k k0 k1 => vo.2.1 0 _ (by decide) (by decide) (by omega) (by omega)
  have hA : m_X35_wordAt u (C + 4275) 4 = some (uW (O x) (O x 5 j 1 + m)) := by
    rw [uW_le vo (by omega) (by omega)]
    exact c_wordA hO c38 (by omega) (by omega) (by omega) BB hB
  refine ⟨⟨hA, uW_in, uW_in, fun r k hr hk' => ?_⟩, t_wordO hu vo g x0 x1 j0 j1 hK hx m0 m1 hm⟩
  have := isKd_one hr hk'
  subst this
  refine ⟨⟨fun q => ⟨⟨fun _ => rfl, fun _ => ?_⟩, q⟩, fun q => q.2⟩, fun _ => rfl⟩
  by_cases c : uW (O x) (O x 5 j 1 + m) % 4 = 3
  · exact c
  · obtain ⟨q0, -, -, q3⟩ := tkW_k q
    rcases kn48 hr c with z | z
    · omega
    · exact absurd (q3.mpr z) h44
/-- an upper part is put into a word -/
noncomputable def cNum (u : jS) (l how D : Int) : Option (jS × Bool × Int) :=
  (m_X35_isInt u D).bind fun v2 =>
  (m_X35_need u l v2 8).bind fun q3 =>
  jth q3.2.1 (some (q3.1, true, q3.2.2)) <|
  (m_X35_upperOf q3.1 D).bind fun v4 =>
  (m_X35_fit q3.1 l how 4 v4).bind fun q5 =>
  jth q5.2.1 (some (q5.1, true, q5.2.2)) <|
  some (q5.1, false, 0)
noncomputable def tNum (t1 : jS) (H n w D : Int) : Option (jS × Int) :=
  (m_X37_isInt t1 D).bind fun v5 =>
  if v5 = 0 then
    (m_X37_wrong t1 H 8 n).bind fun q6 =>
    some (q6.1, Wz q6.2)
  else
    (m_X37_high t1 D).bind fun v7 =>
    (m_X37_fitted t1 H n (jf t1 41 H 115) w v7).bind fun q8 =>
    some (q8.1, Wz q8.2)
theorem x_num (h : rlS C H S O s t e d z G) (hb : jBd s 1 6) (ha : atR C H s t x j 0 A) (x0 : 0 ≤ x) (x1 : x < 6) (j0 : 0 ≤ j) (j1 : j < 300) (b0 : 0 ≤ A) (b1 : A + 4 ≤ 4096) (hk : isKd w r) (hj : jin w) (hA : m_X35_wordAt s (C + 4275) 4 = some w) (hh : hwK how) (ok : okW how 4 w r) (jD : j34 D) : ∃ r' q, cNum s (C + 4275) how D = some r' ∧ tNum t H (300 * x + j) w D = some q ∧ rwE C H s t 0 A 4 r' q := by
  unfold cNum tNum
  rw [c_isIntR, t_isIntR, Option.bind_some, Option.bind_some]
  by_cases c : -2147483648 ≤ D ∧ D ≤ 2147483647
  · obtain ⟨r', q, e1, e2, hq⟩ := x_fitL (i := hiP D) h hb ha x0 x1 j0 j1 b0 b1 hk hj hA hh (.inr rfl) ok
    rw [if_pos c, c_need1, Option.bind_some, jth_ff]
    dsimp only
    rw [if_neg n10, c_upperOf jD, t_high jD, Option.bind_some, Option.bind_some, e1, ha.2.2, e2, Option.bind_some, Option.bind_some, hq.id.2]
    exact ⟨r', q, hq.id.1, rfl, hq⟩
  · obtain ⟨u, e', w', e3, e4, hx⟩ := x_no (m := 4) (f := 8) h hb ha x0 x1 j0 j1 (by decide)
    rw [if_neg c, e3, Option.bind_some, if_pos rfl, e4, Option.bind_some, Wz_0]
    exact ⟨_, _, rfl, rfl, hx⟩
/-- wanted, then its upper part -/
theorem x_wnum (h : rlS C H S O s t e d z G) (hb : jBd s 1 6) (ha : atR C H s t x j 0 A) (x0 : 0 ≤ x) (x1 : x < 6) (j0 : 0 ≤ j) (j1 : j < 300) (b0 : 0 ≤ A) (b1 : A + 4 ≤ 4096) (hh : hwK how) (wg : wdH C s how 4 wc wt) (jD : j34 D) (U : jS → Option (jS × Bool × Int)) (hU : U s = cNum s (C + 4275) how D) (T : jS → Option (jS × Int)) (hT : ∀ t1, tW6 H t t1 → T t1 = tNum t1 H (300 * x + j) wt D) : ∃ r' q, ((m_X35_wanted s (C + 4275) how 4).bind fun q1 => jth q1.2.1 (some (q1.1, true, q1.2.2)) <| U q1.1) = some r' ∧ ((m_X38_kind t (H + 4) wt).bind fun q2 => (m_X37_takes q2.1 how q2.2).bind fun v3 => if v3 = 0 then (m_X37_wrong q2.1 H 7 (300 * x + j)).bind fun q4 => some (q4.1, Wz q4.2) else T q2.1) = some q ∧ rwE C H s t 0 A 4 r' q := by
  obtain ⟨k, t1, e2, w1, hc⟩ := x_wantG h hb ha x0 x1 j0 j1 hh (.inr rfl) wg 4
  rw [e2, Option.bind_some]
  dsimp only
  rcases hc with ⟨c, ew, hk, ok, ew1, e3⟩ | ⟨c, e3, u, e', w', ew1, -, e5, hx⟩
  · obtain ⟨r', q, e4, e5, hq⟩ := x_num (h.w6 w1) hb (ha.w6 w1) x0 x1 j0 j1 b0 b1 hk wg.2.1 wg.1 hh ok jD
    rw [e3, Option.bind_some, if_neg n10, hT _ w1, ew, ew1, Option.bind_some, jth_ff, hU]
    exact ⟨_, _, e4, e5, hq.pre w1⟩
  · rw [e3, Option.bind_some, if_pos rfl, e5, Option.bind_some, Wz_0, ew1, Option.bind_some]
    exact ⟨_, _, rfl, rfl, hx⟩
/-- a relocation's word: plain, or its own piece -/
def wkR (C H : Int) (O : Int → Int → Int → Int → Int) (s t : jS) (d z : Int → Int → Int) (x j A K P m : Int) : Prop := (0 ≤ m ∧ 0 ≤ A ∧ A + m ≤ 4096) ∧ (-10000000 ≤ P ∧ P ≤ 10000000) ∧ ((K = -1 ∧ m = kW (O x 5 j 2) (O x 5 j 4) ∧ ∀ k, 0 ≤ k → k < m → (0 ≤ tBy t H 0 (A + k) ∧ tBy t H 0 (A + k) < 256) ∧ cBy s C 0 (A + k) = sb (tBy t H 0 (A + k))) ∨ ((0 ≤ K ∧ K < d 0 1) ∧ z 2 K = 300 * x + j ∧ z 3 K = x ∧ O x 5 j 1 = z 0 K ∧ z 1 K = kW (O x 5 j 2) (O x 5 j 4) ∧ d 5 K = srT (O x 5 j 2) ∧ m = szK d K (plK d K) ∧ P = plK d K ∧ tkP (O x) j ∧ (mvK d K → m = z 1 K → ∀ i, 0 ≤ i → i < m → cBy s C 0 (A + i) = sb (O x 0 0 (O x 5 j 1 + i)))))
theorem wkR.rs (h : wkR C H O s t d z x j A K P m) (hb : ∀ o p, cBy u C o p = cBy s C o p) : wkR C H O u t d z x j A K P m := by
  obtain ⟨h1, h2, h3⟩ := h
  refine ⟨h1, h2, ?_⟩
  rcases h3 with ⟨a1, a2, a3⟩ | ⟨a1, a2, a3, a4, a5, a6, a7, a8, ta, a9⟩
  · exact .inl ⟨a1, a2, fun k k0 k1 => ⟨(a3 k k0 k1).1, by rw [hb]; exact (a3 k k0 k1).2⟩⟩
  · exact .inr ⟨a1, a2, a3, a4, a5, a6, a7, a8, ta, fun hm hz i i0 i1 => by rw [hb]; exact a9 hm hz i i0 i1⟩
/-- what both read of a piece's size -/
theorem x_sizeR (h : rmS C H S O s t e d z G x j sec A K P) (k0 : 0 ≤ K) (k1 : K < d 0 1) : m_X35_sizeOfPiece s (C + 4275) = some (s, szK d K (plK d K)) ∧ jlt t 1000 (H + 93 + 13) 256 (jf t 41 H 114) = some (szK d K (plK d K)) := by
  obtain ⟨⟨⟨v, ⟨c1, c2, c3⟩, ⟨t1, t2⟩, -⟩, -⟩, -, ⟨h7, -⟩, h9, -⟩ := h
  have v1 := v.2.1
  refine ⟨?_, by rw [h9, jlt_in k0 (by omega), t1.sz t2 v k0 k1]⟩
  rw [em_X35_sizeOfPiece]; unfold dm_X35_sizeOfPiece
  rw [h7, if_neg (by omega), (c_pieceD c1 c2 c3 v k0 k1).2.1, Option.bind_some]
/-- the word at hand, kinds whose words are four bytes -/
theorem x_wdR (h : rmS C H S O s t e d z G x j 0 A K P) (wk : wkR C H O s t d z x j A K P m) (x0 : 0 ≤ x) (x1 : x < 6) (hS : sIn S x) (j0 : 0 ≤ j) (j1 : j < O x 2 2 0) (h51 : ¬ O x 5 j 2 = 51) (h43 : ¬ O x 5 j 2 = 43) (h44 : ¬ (how = 44 ∨ how = 45)) (kw : kW (O x 5 j 2) (O x 5 j 4) = m) (m4 : m = 4 ∨ m = 8) : ∃ wc wt, wdH C s how 4 wc wt ∧ m_X37_wordFor t H (300 * x + j) 0 = some wt := by
  obtain ⟨⟨m0, b0, b1⟩, -, hw⟩ := wk
  obtain ⟨-, -, hut, vo, g, j3⟩ := h.1.rl x0 x1 hS j0 j1
  obtain ⟨-, l1, l2, -⟩ := rel_lo vo g j0 j1
  have g3 := (g.2.2 j j0 j1).2.2.2
  have c38 := h.2.1.1.2.2
  rcases hw with ⟨a1, a2, a3⟩ | ⟨a1, a2, a3, a4, a5, a6, a7, a8, ta, a9⟩
  · refine x_wdP (A := A) (m := 0) (nn := 4) h.1.2.2.2 (by rw [Int.add_zero]; exact c38) hut vo x0 x1 j0 j1 h51 (by rw [h.2.2.2.1]; exact a1) h.2.1.2.2 b0 (by decide) (by decide) (.inr rfl) (by omega) (by omega) (by omega) (by omega) fun k k0 k1 => ?_
    rw [Int.add_zero]; exact a3 k k0 (by omega)
  · obtain ⟨q1, q2⟩ := x_wdO (A := A) (m := 0) (how := how) h.1.2.2.2 (by rw [Int.add_zero]; exact c38) hut vo g x0 x1 j0 j1 (by rw [h.2.2.2.1]; omega) h.2.1.2.1 b0 (by decide) (by decide) (by omega) (by
      have : O x 5 j 0 = 0 := ta.1
      rw [this] at g3
      omega) h44 (fun k k0 k1 => by
        rw [Int.add_zero, Int.add_zero]
        refine a9 ?_ (by omega) k k0 (by omega)
        have : ¬ O x 5 j 2 = 43 := h43
        unfold mvK; rw [a6]; unfold srT; rw [if_neg h43]; split
        · exact .inl rfl
        split
        · exact .inr (.inl rfl)
        · exact .inr (.inr rfl))
    exact ⟨_, _, q1, q2⟩
end jLnr
