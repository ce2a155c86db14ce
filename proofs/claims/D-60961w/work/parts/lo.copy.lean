/-! the linker: bytes are copied, the component *-/
set_option maxRecDepth 100000
section jLcp
variable {s t u w : jS} {a b k m n o p q v l x c f g i j H C S K X : Int} {O : Int → Int → Int → Int → Int} {d e z y : Int → Int → Int} {G : Int → Int}
/-- outputs' bytes alone: the component -/
def cOW (C : Int) (s u : jS) : Prop := jSm s u ∧ ∀ c a k, ¬ (c = 1001 ∧ C + 4275 + 34 ≤ a ∧ a ≤ C + 4275 + 36) → jf u c a k = jf s c a k
theorem cOW.rfl : cOW C s s := ⟨jSm.rfl, fun _ _ _ _ => Eq.refl _⟩
theorem cOW.trans (h : cOW C s u) (g : cOW C u w) : cOW C s w := ⟨h.1.trans g.1, fun c a k q => (g.2 c a k q).trans (h.2 c a k q)⟩
theorem cOW.rw (h : cOW C s u) : cRW C s u := ⟨h.1, fun c a k q => h.2 c a k fun z => q (.inl z)⟩
theorem i_shr8 {y : Int} (hy : y = 1 ∨ y = 19) (k0 : 0 ≤ k) (k1 : k < 4) : I_shr y (8 * k) = if k = 0 then y else 0 := by
  rw [i_shr_p (by omega) (by omega) (by omega)]
  have : k = 0 ∨ k = 1 ∨ k = 2 ∨ k = 3 := by omega
  rcases hy with rfl | rfl <;> rcases this with rfl | rfl | rfl | rfl <;> decide
theorem c_nopsL (ha : 0 ≤ a) (hK : jK s a = 1001) (hN : jN s a = 4096) (p0 : 0 ≤ p) (p1 : p + n ≤ 4096) (n0 : 0 ≤ n) : ∃ u, m_X35_nothing s l a p n = some (u, 0) ∧ jSm s u ∧ (∀ k, 0 ≤ k → k < n → jf u 1001 a (p + k) = sb (nopB n k)) ∧ ∀ c b k, ¬ (c = 1001 ∧ b = a ∧ p ≤ k ∧ k < p + n) → jf u c b k = jf s c b k := by
  rw [em_X35_nothing]; unfold dm_X35_nothing
  rw [eu_X35_nothing_3]; unfold du_X35_nothing_3
  obtain ⟨u, eu, h1, h2, h3⟩ := loopTo (C := jc4 b_X35_nothing_3) (fun i w => jSm s w ∧ (∀ k, 0 ≤ k → k < i → jf w 1001 a (p + k) = sb (nopB n k)) ∧ ∀ c b k, ¬ (c = 1001 ∧ b = a ∧ p ≤ k ∧ k < p + i) → jf w c b k = jf s c b k) (fun i => [a, p, n, i]) 0 n n0 (s := s) (F := fun w => some (w, 0)) ⟨jSm.rfl, fun k k0 k1 => by omega, fun _ _ _ _ => rfl⟩ (fun i w i0 i1 ⟨j1, j2, j3⟩ => by
    have lo := nopB_lo (n := n) (k := i)
    have st : ∀ y, y = nopB n i → u_X35_nothing_48 w a p n i y (p + i) a = some (.inl (jp w 1001 a (p + i) (sb (nopB n i)), [a, p, n, i + 1])) := fun y hy => by
      rw [eu_X35_nothing_48]; unfold du_X35_nothing_48
      rw [hy, W8_sb, W8_sb, sb_mod (by omega) (by omega), jsa_in ha (by rw [j1.1]; exact hK) (by omega) (by rw [j1.2.1, hN]; omega), Option.bind_some, W32_in (by omega) (by omega), show nopB n i % 256 = nopB n i by omega]
    refine ⟨jp w 1001 a (p + i) (sb (nopB n i)), ?_, j1.jp, fun k k0 k1 => ?_, fun c b k q => ?_⟩
    · show b_X35_nothing_3 w a p n i = _
      unfold b_X35_nothing_3
      rw [if_pos i1, jdv_in (by decide), I_div_n (by omega) (by omega) (by decide) (by decide), Option.bind_some, W32_in (z := i / 4 * 4) (by omega) (by omega), W32_in (z := i / 4 * 4 + 4) (by omega) (by omega), jdv_in (by decide), I_rem_n (by omega) (by omega) (by decide) (by decide), Option.bind_some, Option.bind_some, W32_in (z := i % 4 * 8) (by omega) (by omega), W32_in (z := p + i) (by omega) (by omega), show i % 4 * 8 = 8 * (i % 4) by omega, i_shr8 (.inl rfl) (by omega) (by omega), i_shr8 (.inr rfl) (by omega) (by omega)]
      by_cases c : n < i / 4 * 4 + 4
      · rw [if_pos c]
        refine st _ ?_
        unfold nopB; rw [if_neg (show ¬ i / 4 * 4 + 4 ≤ n by omega)]
      · rw [if_neg c]
        refine st _ ?_
        unfold nopB; rw [if_pos (show i / 4 * 4 + 4 ≤ n by omega)]
    · by_cases c : k = i
      · rw [c, jf_pos ⟨rfl, rfl, rfl⟩]
      · rw [jf_neg (by omega)]; exact j2 k k0 (by omega)
    · rw [jf_neg (by omega)]; exact j3 c b k (by omega)) (fun w _ => by
    show b_X35_nothing_3 w a p n n = _
    unfold b_X35_nothing_3
    rw [if_neg (by omega)])
  exact ⟨u, eu, h1, h2, h3⟩
/-- a piece's place in its output -/
theorem LZD.spot (h : LZD C H S O s t e d z G) (k0 : 0 ≤ k) (k1 : k < d 0 1) (h3 : d 1 (d 11 k) < 3) : 0 ≤ plK d k - ouB d (d 1 (d 11 k)) ∧ 0 ≤ szK d k (plK d k) ∧ plK d k - ouB d (d 1 (d 11 k)) + szK d k (plK d k) ≤ 4096 := by
  have v := h.1
  have nb := h.2.2.2.2.2.2.2.2
  obtain ⟨a1, a2, a3⟩ := pl_in v k0 k1
  obtain ⟨-, ⟨h1, h2, -⟩, -⟩ := v.2.2.2.2.2.2.1 k k0 k1
  have g1 := (v.2.2.2.2.1 _ h1 h2).1.1
  have : ouE d (d 1 (d 11 k)) - ouB d (d 1 (d 11 k)) ≤ 4096 := by
    by_cases c : ouE d (d 1 (d 11 k)) - ouB d (d 1 (d 11 k)) ≤ 4096
    · exact c
    · exact absurd (.inl ⟨_, g1, h3, by omega⟩) nb
  omega
/-- a piece of a unit's section is copied -/
theorem c_copyK (h : LZD C H S O s t e d z G) (hO : outK C s) (x0 : 0 ≤ x) (x1 : x < 6) (hS : sIn S x) (j0 : 0 ≤ j) (j1 : j < 3) (hk : d 3 (4 * nIn S x.toNat + j) ≤ k ∧ k < d 4 (4 * nIn S x.toNat + j)) : ∃ u, b_X35_copy_59 s (C + 4275) i x j (4 * nIn S x.toNat + j) (fAt C x + 614 + 1 + 4 + 2 * j + 1) k = some (.inl (u, [C + 4275, i, x, j, 4 * nIn S x.toNat + j, fAt C x + 614 + 1 + 4 + 2 * j + 1, k + 1])) ∧ cOW C s u ∧ (∀ o p, ¬ (o = j ∧ plK d k - ouB d j ≤ p ∧ p < plK d k - ouB d j + szK d k (plK d k)) → cBy u C o p = cBy s C o p) ∧ (d 5 k = 4 → ∀ i, 0 ≤ i → i < szK d k (plK d k) → cBy u C j (plK d k - ouB d j + i) = sb (nopB (szK d k (plK d k)) i)) ∧ (¬ d 5 k = 4 → szK d k (plK d k) = z 1 k → ∀ i, 0 ≤ i → i < z 1 k → cBy u C j (plK d k - ouB d j + i) = sb (O x 0 j (z 0 k + i))) ∧ (¬ d 5 k = 4 → ¬ szK d k (plK d k) = z 1 k → u = s) := by
  obtain ⟨v, ⟨c1, c2, c3⟩, -, ⟨p1, -⟩, ⟨r1, -, -⟩, ⟨hk1, -⟩, -⟩ := id h
  obtain ⟨⟨q1, q2, q3⟩, q4⟩ := r1.1 x j x0 x1 hS j0 (by omega)
  have nx := nIn_lo (S := S) x.toNat
  have v1 := v.2.1
  have v0 := v.1
  obtain ⟨-, -, ⟨d1, d2, d3⟩, -⟩ := v.2.2.2.2.1 _ (by omega) q4
  have k0 : 0 ≤ k := by omega
  have k1 : k < d 0 1 := by omega
  have e11 := v.pt (by omega) q4 hk.1 hk.2
  have eo : d 1 (d 11 k) = j := by rw [e11]; exact q2
  obtain ⟨s0, s1, s2⟩ := h.spot k0 k1 (by rw [eo]; exact j1)
  rw [eo] at s0 s2
  have pD := c_pieceD c1 c2 c3 v k0 k1
  have oD := (h.outC (o := j) j0 (by omega)).1
  obtain ⟨o0, oK, oN⟩ := hO j j0 j1
  have J30 : jlt s 1000 (C + 4275 + 30) 32 (4 * nIn S x.toNat + j) = some (d 4 (4 * nIn S x.toNat + j)) := by rw [jlt_in (by omega) (by omega), (p1.2.2 _ (by omega) q4).2]
  have l1 := plK_lo v k0 k1
  have l2 := ouB_lo v (o := j) j0 (by omega)
  obtain ⟨zz, -⟩ := r1.2.2 k k0 k1
  obtain ⟨c25, c26, -⟩ := p1.2.1 k k0 k1
  have eOut : C + 4275 + 33 + 1 + 1 * j = C + 4275 + 34 + j := by omega
  unfold b_X35_copy_59
  rw [J30, Option.bind_some, if_pos hk.2, pD.2.2, Option.bind_some]
  dsimp only
  rw [oD, Option.bind_some]
  simp only [jlet]
  rw [W32_in (by omega) (by omega), pD.1, Option.bind_some]
  dsimp only
  rw [pD.2.1, Option.bind_some]
  dsimp only
  obtain ⟨T, hT⟩ : ∃ T, T = plK d k - ouB d j := ⟨_, rfl⟩
  obtain ⟨N, hN⟩ : ∃ N, N = szK d k (plK d k) := ⟨_, rfl⟩
  rw [← hT] at s0 s2 ⊢
  rw [← hN] at s1 s2 ⊢
  -- the copying loop
  have lp : ∀ w, cOW C s w → ¬ d 5 k = 4 → N = z 1 k → ∃ u, u_X35_copy_137 w (C + 4275) i x j (4 * nIn S x.toNat + j) (fAt C x + 614 + 1 + 4 + 2 * j + 1) k T (d 5 k) N = some (.inl (u, [C + 4275, i, x, j, 4 * nIn S x.toNat + j, fAt C x + 614 + 1 + 4 + 2 * j + 1, k + 1])) ∧ cOW C w u ∧ (∀ o p, ¬ (o = j ∧ T ≤ p ∧ p < T + N) → cBy u C o p = cBy w C o p) ∧ ∀ i, 0 ≤ i → i < z 1 k → cBy u C j (T + i) = sb (O x 0 j (z 0 k + i)) := fun w hw k4 nz => by
    obtain ⟨z1, -, z3, -⟩ := hk1.2.2.1 x x0 x1 hS
    have hl : ∀ i', 0 ≤ i' → i' < N → z 0 k + i' < O x 1 j 0 := fun i' i0 i1 => by
      by_cases cl : k + 1 < d 4 (4 * nIn S x.toNat + j)
      · have := q3.le (i := k + 1) (j := d 4 (4 * nIn S x.toNat + j) - 1) (by omega) (by omega) (by omega)
        have st := (q3.2.2.1 k hk.1 cl).2
        have en := q3.2.2.2
        have z1p := (r1.2.2 (d 4 (4 * nIn S x.toNat + j) - 1) (by omega) (by omega)).1.2.1
        omega
      · have := q3.2.2.2
        rw [show d 4 (4 * nIn S x.toNat + j) - 1 = k by omega] at this
        omega
    have sz := (z3.1 j j0 (by omega)).2.1
    rw [if_neg (by omega)] at sz
    have hB : jN s (fAt C x + 614 + 1 + 4 + 2 * j + 1) = 2048 := by
      have := z1.1 j j0 (by omega)
      rw [if_neg (by omega)] at this; exact this
    rw [eu_X35_copy_137]; unfold du_X35_copy_137
    rw [eu_X35_copy_140]; unfold du_X35_copy_140
    obtain ⟨u, eu, h1, h2, h3⟩ := loopTo (C := jc11 b_X35_copy_140) (fun n u => cOW C w u ∧ (∀ o p, ¬ (o = j ∧ T ≤ p ∧ p < T + n) → cBy u C o p = cBy w C o p) ∧ ∀ i, 0 ≤ i → i < n → cBy u C j (T + i) = sb (O x 0 j (z 0 k + i))) (fun n => [C + 4275, i, x, j, 4 * nIn S x.toNat + j, fAt C x + 614 + 1 + 4 + 2 * j + 1, k, T, d 5 k, N, n]) 0 N s1 (s := w) (F := fun u => some (.inl (u, [C + 4275, i, x, j, 4 * nIn S x.toNat + j, fAt C x + 614 + 1 + 4 + 2 * j + 1, k + 1]))) ⟨.rfl, fun _ _ _ => rfl, fun i i0 i1 => by omega⟩ (fun n u n0 n1 ⟨j1', j2', j3'⟩ => by
      have fu := hw.trans j1'
      have by1 : jf u 1001 (fAt C x + 614 + 1 + 4 + 2 * j + 1) (z 0 k + n) = sb (O x 0 j (z 0 k + n)) := by
        rw [fu.2 _ _ _ (by unfold fAt; omega)]
        exact z1.2.2.1 j (z 0 k + n) j0 j1 (by omega) (hl n n0 n1)
      have bl := z3.2.1 j (z 0 k + n) j0 j1 (by omega) (hl n n0 n1)
      have J26 : jlt u 1000 (C + 4275 + 26) 256 k = some (z 1 k) := by rw [jlt_in k0 (by omega), fu.2 _ _ _ (by omega), c26]
      have J25 : jlt u 1000 (C + 4275 + 25) 256 k = some (z 0 k) := by rw [jlt_in k0 (by omega), fu.2 _ _ _ (by omega), c25]
      have JB : jlt u 1001 (fAt C x + 614 + 1 + 4 + 2 * j + 1) (jN u (fAt C x + 614 + 1 + 4 + 2 * j + 1)) (z 0 k + n) = some (sb (O x 0 j (z 0 k + n))) := by
        rw [fu.1.2.1, hB, jlt_in (by omega) (by have := hl n n0 n1; omega), by1]
      refine ⟨jp u 1001 (C + 4275 + 34 + j) (T + n) (sb (O x 0 j (z 0 k + n))), ?_, ⟨j1'.1.jp, fun c a k' q => by rw [jf_neg (by omega)]; exact j1'.2 c a k' q⟩, fun o p q => ?_, fun i i0 i1 => ?_⟩
      · show b_X35_copy_140 u (C + 4275) i x j (4 * nIn S x.toNat + j) (fAt C x + 614 + 1 + 4 + 2 * j + 1) k T (d 5 k) N n = _
        unfold b_X35_copy_140
        rw [if_pos n1, if_neg k4, J26, Option.bind_some, if_pos nz, jix_in j0 j1, Option.bind_some, eOut, J25, Option.bind_some, W32_in (z := z 0 k + n) (by omega) (by omega), JB, Option.bind_some, W32_in (z := T + n) (by omega) (by omega), jst_in (by omega) (by omega), Option.bind_some, W32_in (z := n + 1) (by omega) (by omega), W8_sb, sb_mod bl.1 bl.2]
      · show jf _ 1001 _ _ = _
        rw [jf_neg (by omega)]; exact j2' o p (by omega)
      · show jf _ 1001 _ _ = _
        by_cases c : i = n
        · rw [c, jf_pos ⟨rfl, rfl, rfl⟩]
        · rw [jf_neg (by omega)]; exact j3' i i0 (by omega)) (fun u _ => by
      show b_X35_copy_140 u (C + 4275) i x j (4 * nIn S x.toNat + j) (fAt C x + 614 + 1 + 4 + 2 * j + 1) k T (d 5 k) N N = _
      unfold b_X35_copy_140
      rw [if_neg (by omega), eu_X35_copy_196]; unfold du_X35_copy_196
      rw [W32_in (by omega) (by omega)])
    exact ⟨u, eu, h1, h2, fun i i0 i1 => h3 i i0 (by omega)⟩
  by_cases k4 : d 5 k = 4
  · rw [if_pos k4, jix_in j0 j1, Option.bind_some, eOut]
    obtain ⟨u, eu, m1, b1, F1⟩ := c_nopsL (l := C + 4275) o0 oK oN s0 s2 s1
    rw [eu, Option.bind_some, eu_X35_copy_137]; unfold du_X35_copy_137
    dsimp only
    rw [eu_X35_copy_140]; unfold du_X35_copy_140
    have body : jc11 b_X35_copy_140 [C + 4275, i, x, j, 4 * nIn S x.toNat + j, fAt C x + 614 + 1 + 4 + 2 * j + 1, k, T, d 5 k, N, 0] u = jinr (some (.inl (u, [C + 4275, i, x, j, 4 * nIn S x.toNat + j, fAt C x + 614 + 1 + 4 + 2 * j + 1, k + 1]))) := by
      show b_X35_copy_140 u (C + 4275) i x j (4 * nIn S x.toNat + j) (fAt C x + 614 + 1 + 4 + 2 * j + 1) k T (d 5 k) N 0 = _
      unfold b_X35_copy_140
      rw [if_pos k4, eu_X35_copy_196]; unfold du_X35_copy_196
      rw [W32_in (by omega) (by omega)]
      split <;> rfl
    rw [jlpW_r body]
    exact ⟨u, rfl, ⟨m1, fun c a k' q => F1 c a k' (by omega)⟩, fun o p q => F1 _ _ _ (by omega), fun _ i i0 i1 => b1 i i0 i1, fun q => absurd k4 q, fun q => absurd k4 q⟩
  · rw [if_neg k4]
    by_cases nz : N = z 1 k
    · obtain ⟨u, eu, m1, F1, b1⟩ := lp s .rfl k4 nz
      exact ⟨u, eu, m1, F1, fun q => absurd q k4, fun _ _ => b1, fun _ q => absurd nz q⟩
    · rw [eu_X35_copy_137]; unfold du_X35_copy_137
      rw [eu_X35_copy_140]; unfold du_X35_copy_140
      have J26 : jlt s 1000 (C + 4275 + 26) 256 k = some (z 1 k) := by rw [jlt_in k0 (by omega), c26]
      have body : jc11 b_X35_copy_140 [C + 4275, i, x, j, 4 * nIn S x.toNat + j, fAt C x + 614 + 1 + 4 + 2 * j + 1, k, T, d 5 k, N, 0] s = jinr (some (.inl (s, [C + 4275, i, x, j, 4 * nIn S x.toNat + j, fAt C x + 614 + 1 + 4 + 2 * j + 1, k + 1]))) := by
        show b_X35_copy_140 s (C + 4275) i x j (4 * nIn S x.toNat + j) (fAt C x + 614 + 1 + 4 + 2 * j + 1) k T (d 5 k) N 0 = _
        unfold b_X35_copy_140
        rw [if_neg k4, J26, Option.bind_some, if_neg nz, eu_X35_copy_196]; unfold du_X35_copy_196
        rw [W32_in (by omega) (by omega)]
        split <;> rfl
      rw [jlpW_r body]
      exact ⟨s, rfl, .rfl, fun _ _ _ => rfl, fun q => absurd q k4, fun _ q => absurd q nz, fun _ _ => rfl⟩
end jLcp
