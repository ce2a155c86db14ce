/-! the linker: which piece an offset is in; a unit's parts; a piece's sort *-/
set_option maxRecDepth 100000
section jPla
variable {s t u w r s' t' s0 t0 q' : jS} {a b g k m n p v l x y0 c j X f i o H B C P Q P' Q' S Si w0 l0 c0 z0 N M rr : Int} {O : Int → Int → Int → Int → Int} {d d' e z : Int → Int → Int}
def pcA (d z : Int → Int → Int) (p i k : Int) : Prop := (d 3 p ≤ k ∧ k < d 4 p) ∧ z 0 k ≤ i ∧ (k + 1 < d 4 p → i < z 0 (k + 1))
theorem pCt.mono (h : pCt d z p a) : ∀ (n : Nat) (i : Int), d 3 p ≤ i → i + n < d 4 p → z 0 i ≤ z 0 (i + n) ∧ (0 < n → z 0 i < z 0 (i + n)) := by
  intro n
  induction n with
  | zero => intro i i0 i1; simp
  | succ n ih =>
    intro i i0 i1
    have h1 := (ih i i0 (by omega)).1
    obtain ⟨h2, h3⟩ := h.2.2.1 (i + n) (by omega) (by omega)
    rw [show i + ((n + 1 : Nat) : Int) = i + n + 1 by omega]
    exact ⟨by omega, fun _ => by omega⟩
theorem pCt.le (h : pCt d z p a) (i0 : d 3 p ≤ i) (hij : i ≤ j) (j1 : j < d 4 p) : z 0 i ≤ z 0 j := by
  have := (h.mono (j - i).toNat i i0 (by omega)).1
  rw [show i + ((j - i).toNat : Int) = j by omega] at this; exact this
theorem pcA.one (h : pCt d z p a) (g : pcA d z p i k) (g' : pcA d z p i j) : k = j := by
  obtain ⟨⟨a1, a2⟩, a3, a4⟩ := g
  obtain ⟨⟨b1, b2⟩, b3, b4⟩ := g'
  by_cases c : k < j
  · have := h.le (i := k + 1) (j := j) (by omega) (by omega) b2
    have := a4 (by omega); omega
  · by_cases c' : j < k
    · have := h.le (i := j + 1) (j := k) (by omega) (by omega) a2
      have := b4 (by omega); omega
    · omega
theorem c_pieceAt (h : cPz C s d z) (pt : pCt d z p a) (vl : vLy d) (p0 : 0 ≤ p) (p1 : p < d 0 0) (i0 : 0 ≤ i) : ∃ k, m_X35_pieceAt s (C + 4275) p i = some k ∧ pcA d z p i k := by
  obtain ⟨-, h2, h3⟩ := h
  obtain ⟨r3, r4⟩ := h3 p p0 p1
  have v0 := vl.1
  have v1 := vl.2.1
  obtain ⟨-, -, ⟨d1, d2, d3⟩, -⟩ := vl.2.2.2.2.1 p p0 p1
  have hlt := pt.1
  rw [em_X35_pieceAt]; unfold dm_X35_pieceAt
  simp only [jlet]
  rw [jlt_in p0 (by omega), Option.bind_some, r4, W32_in (by omega) (by omega), eu_X35_pieceAt_9]; unfold du_X35_pieceAt_9
  have st : ∀ k, d 3 p < k → k < d 4 p → b_X35_pieceAt_9 s (C + 4275) p i k = if i < z 0 k then some (.inl [C + 4275, p, i, k - 1]) else jinr (some k) := fun k k0 k1 => by
    unfold b_X35_pieceAt_9
    rw [jlt_in p0 (by omega), Option.bind_some, r3, if_pos k0, jlt_in (by omega) (by omega), Option.bind_some, (h2 k (by omega) (by omega)).1, W32_in (by omega) (by omega)]
    rfl
  rcases jseekR (C := jc4 b_X35_pieceAt_9) (s := s) (fun m => [C + 4275, p, i, d 4 p - 1 - m]) (fun m => ¬ i < z 0 (d 4 p - 1 - m)) (fun m => some (d 4 p - 1 - m)) (some (d 3 p)) 0 (d 4 p - 1 - d 3 p) (by omega) (fun m m0 m1 hm => by
      show b_X35_pieceAt_9 s (C + 4275) p i (d 4 p - 1 - m) = _
      rw [st _ (by omega) (by omega), if_pos (Decidable.not_not.mp hm), show d 4 p - 1 - m - 1 = d 4 p - 1 - (m + 1) by omega]) (fun m m0 m1 hm => by
      show b_X35_pieceAt_9 s (C + 4275) p i (d 4 p - 1 - m) = _
      rw [st _ (by omega) (by omega), if_neg hm]) (by
      show b_X35_pieceAt_9 s (C + 4275) p i (d 4 p - 1 - (d 4 p - 1 - d 3 p)) = _
      unfold b_X35_pieceAt_9
      rw [jlt_in p0 (by omega), Option.bind_some, r3, if_neg (by omega), eu_X35_pieceAt_37]; unfold du_X35_pieceAt_37
      rw [jlt_in p0 (by omega), Option.bind_some, r3]) with ⟨m, m0, m1, hm, hl, er⟩ | ⟨hn, er⟩
  · rw [show d 4 p - 1 - 0 = d 4 p - 1 by omega] at er
    refine ⟨_, er, ⟨by omega, by omega⟩, by omega, fun q => ?_⟩
    have := hl (m - 1) (by omega) (by omega)
    rw [show d 4 p - 1 - (m - 1) = d 4 p - 1 - m + 1 by omega] at this
    omega
  · rw [show d 4 p - 1 - 0 = d 4 p - 1 by omega] at er
    refine ⟨_, er, ⟨by omega, by omega⟩, by rw [pt.2.1]; exact i0, fun q => ?_⟩
    have := hn (d 4 p - 1 - d 3 p - 1) (by omega) (by omega)
    rw [show d 4 p - 1 - (d 4 p - 1 - d 3 p - 1) = d 3 p + 1 by omega] at this
    omega
theorem t_pieceAt (h : tPz H t d z) (pt : pCt d z p a) (vl : vLy d) (hI : ∀ k, 0 ≤ k → k < d 0 1 → pcI O d z k) (p0 : 0 ≤ p) (p1 : p < d 0 0) (i0 : 0 ≤ i) : ∃ k, m_X37_pieceAt t H p i = some k ∧ pcA d z p i k := by
  obtain ⟨h1, h2, -, -⟩ := h
  obtain ⟨r3, r4⟩ := h2 p p0 p1
  have v0 := vl.1
  have v1 := vl.2.1
  obtain ⟨-, -, ⟨d1, d2, d3⟩, -⟩ := vl.2.2.2.2.1 p p0 p1
  have hlt := pt.1
  rw [em_X37_pieceAt]; unfold dm_X37_pieceAt
  simp only [jlet]
  have J1 : jlt t 1000 (H + 200) 32 p = some (d 3 p) := by rw [jlt_in p0 (by omega), r3]
  have J2 : jlt t 1000 (H + 201) 32 p = some (d 4 p - d 3 p) := by rw [jlt_in p0 (by omega), r4]
  rw [J1, J2, Option.bind_some, Option.bind_some, Option.bind_some, W32_in (z := d 3 p + (d 4 p - d 3 p)) (by omega) (by omega), W32_in (by omega) (by omega), show d 3 p + (d 4 p - d 3 p) - 1 = d 4 p - 1 by omega, eu_X37_pieceAt_24]; unfold du_X37_pieceAt_24
  have st : ∀ k, d 3 p ≤ k → k < d 4 p → b_X37_pieceAt_24 t H i (d 4 p - 1) k = if i = z 0 k ∨ z 0 k < i ∧ i < z 0 k + z 1 k then jinr (some k) else some (.inl [H, i, d 4 p - 1, k + 1]) := fun k k0 k1 => by
    obtain ⟨q1, q2, -⟩ := h1 k (by omega) (by omega)
    have qb := (hI k (by omega) (by omega)).1
    have K1 : jlt t 1000 (H + 197) 256 k = some (z 0 k) := by rw [jlt_in (by omega) (by omega), q1]
    have K2 : jlt t 1000 (H + 198) 256 k = some (z 1 k) := by rw [jlt_in (by omega) (by omega), q2]
    have e74 : u_X37_pieceAt_74 t H i (d 4 p - 1) k = some (.inl [H, i, d 4 p - 1, k + 1]) := by
      rw [eu_X37_pieceAt_74]; unfold du_X37_pieceAt_74
      rw [W32_in (by omega) (by omega)]
    unfold b_X37_pieceAt_24
    rw [if_neg (by omega), K1, K2, Option.bind_some, Option.bind_some, Option.bind_some, Option.bind_some, W32_in (by omega) (by omega), e74]
    by_cases c : i = z 0 k
    · rw [if_pos c, if_pos (.inl c)]
    · rw [if_neg c]
      by_cases c2 : z 0 k < i
      · rw [if_pos c2]
        by_cases c3 : i < z 0 k + z 1 k
        · rw [if_pos c3, if_pos (.inr ⟨c2, c3⟩)]
        · rw [if_neg c3, if_neg (by omega)]
      · rw [if_neg c2, if_neg (by omega)]
  -- what is not here is behind
  have below : ∀ (n : Nat), d 3 p + n < d 4 p → (∀ k, d 3 p ≤ k → k < d 3 p + n → ¬ (i = z 0 k ∨ z 0 k < i ∧ i < z 0 k + z 1 k)) → z 0 (d 3 p + n) ≤ i := by
    intro n
    induction n with
    | zero => intro _ _; rw [show d 3 p + ((0 : Nat) : Int) = d 3 p by omega, pt.2.1]; exact i0
    | succ n ih =>
      intro hn hq
      have h1 := ih (by omega) fun k k0 k1 => hq k k0 (by omega)
      have h2 := hq (d 3 p + n) (by omega) (by omega)
      have h3 := (pt.2.2.1 (d 3 p + n) (by omega) (by omega)).2
      rw [show d 3 p + ((n + 1 : Nat) : Int) = d 3 p + n + 1 by omega, h3]
      omega
  rcases jseekR (C := jc4 b_X37_pieceAt_24) (s := t) (fun k => [H, i, d 4 p - 1, k]) (fun k => i = z 0 k ∨ z 0 k < i ∧ i < z 0 k + z 1 k) (fun k => some k) (some (d 4 p - 1)) (d 3 p) (d 4 p) (by omega) (fun k k0 k1 hk => by
      show b_X37_pieceAt_24 t H i (d 4 p - 1) k = _
      rw [st k k0 k1, if_neg hk]) (fun k k0 k1 hk => by
      show b_X37_pieceAt_24 t H i (d 4 p - 1) k = _
      rw [st k k0 k1, if_pos hk]) (by
      show b_X37_pieceAt_24 t H i (d 4 p - 1) (d 4 p) = _
      unfold b_X37_pieceAt_24
      rw [if_pos (by omega)]) with ⟨k, k0, k1, hk, hl, er⟩ | ⟨hn, er⟩
  · refine ⟨_, er, ⟨k0, k1⟩, by omega, fun q => ?_⟩
    obtain ⟨h3, h4⟩ := pt.2.2.1 k k0 q
    omega
  · refine ⟨_, er, ⟨by omega, by omega⟩, ?_, fun q => by omega⟩
    have := below (d 4 p - 1 - d 3 p).toNat (by omega) fun k k0 k1 => hn k k0 (by omega)
    rw [show d 3 p + ((d 4 p - 1 - d 3 p).toNat : Int) = d 4 p - 1 by omega] at this; exact this
theorem nIn_ex : ∀ (n : Nat) (i : Int), 0 ≤ i → i < nIn S n → ∃ v : Int, (0 ≤ v ∧ v < n) ∧ sIn S v ∧ nIn S v.toNat = i := by
  intro n
  induction n with
  | zero => intro i i0 i1; have := (nIn_lo (S := S) 0).2; omega
  | succ n ih =>
    intro i i0 i1
    have e := nIn_s (S := S) (x := (n : Int)) (by omega)
    rw [show ((n : Int) + 1).toNat = n + 1 by omega, show (n : Int).toNat = n by omega] at e
    by_cases c : i < nIn S n
    · obtain ⟨v, ⟨v0, v1⟩, v2, v3⟩ := ih i i0 c
      exact ⟨v, ⟨v0, by omega⟩, v2, v3⟩
    · by_cases cs : sIn S (n : Int)
      · rw [if_pos cs] at e
        exact ⟨n, ⟨by omega, by omega⟩, cs, by rw [show (n : Int).toNat = n by omega]; omega⟩
      · rw [if_neg cs] at e; omega
theorem c_partOf (h : ordR C S s 6) (x0 : 0 ≤ x) (x1 : x < 6) (hS : sIn S x) (j0 : 0 ≤ j) (j1 : j < 4) : m_X35_partOf s (C + 4275) x j = some (4 * nIn S x.toNat + j) := by
  have nx := nIn_lo (S := S) x.toNat
  rw [em_X35_partOf]; unfold dm_X35_partOf
  rw [eu_X35_partOf_2]; unfold du_X35_partOf_2
  refine jforR (C := jc4 b_X35_partOf_2) (fun i => [C + 4275, x, j, i]) 0 (nIn S x.toNat) nx.1 (fun i i0 i1 => ?_) ?_
  · obtain ⟨v, ⟨v0, v1⟩, v2, v3⟩ := nIn_ex x.toNat i i0 i1
    have r := h.2 v v0 (by omega) v2
    rw [v3] at r
    show b_X35_partOf_2 s (C + 4275) x j i = _
    unfold b_X35_partOf_2
    rw [jlt_in i0 (by omega), Option.bind_some, r, if_neg (by omega), W32_in (by omega) (by omega)]
  · have r := h.2 x x0 x1 hS
    have n6 : nIn S x.toNat < nIn S 6 := nIn_lt hS x0 (x := 6) x1
    have n7 := (nIn_lo (S := S) 6).2
    show b_X35_partOf_2 s (C + 4275) x j (nIn S x.toNat) = _
    unfold b_X35_partOf_2
    rw [jlt_in nx.1 (by omega), Option.bind_some, r, if_pos rfl, eu_X35_partOf_18]; unfold du_X35_partOf_18
    rw [W32_in (z := 4 * nIn S x.toNat) (by omega) (by omega), W32_in (by omega) (by omega)]
/-- a piece's sort; asking lays the places out -/
theorem c_pieceS (h : cLy s B d) (v : vLy d) (k0 : 0 ≤ k) (k1 : k < d 0 1) : ∃ u, m_X36_piece s B k 0 = some (u, d 5 k) ∧ lyW B s u ∧ cLs u B d ∧ cLd u B d ∧ jf u 40 B 19 = 1 := by
  have v1 := v.2.1
  obtain ⟨u, e, w, c, l, h19⟩ := c_layAll h v
  obtain ⟨⟨q1, q2, q3⟩, -, -, -, -, -, s2, s3⟩ := c.2.2.2.2.1 k k0 k1
  obtain ⟨⟨g1, g2⟩, -⟩ := v.2.2.2.2.2.2.1 k k0 k1
  refine ⟨u, ?_, w, c, l, h19⟩
  have hp := c.2.2.2.2.1 k k0 k1
  rw [em_X36_piece]; unfold dm_X36_piece
  rw [e_X36_isPiece, h.1.2.1.2.1, W32_in (by omega) (by omega), if_pos (by omega), Option.bind_some, if_neg n10, e, Option.bind_some, jlt_in k0 (by omega), Option.bind_some, c_moving hp ⟨g1, g2⟩, Option.bind_some, if_pos rfl]
  have sort : mp_X53_sort u (poK u B k) = some (d 5 k) := by
    rw [emp_X53_sort]; unfold dmp_X53_sort
    have kk := kOf_c (f := d 5 k)
    rcases kk with ⟨e1, e2, e3⟩ | ⟨e1, e2, e3⟩ | ⟨e1, e2, e3⟩ | ⟨e1, e2, e3, e4, e5⟩ <;> rw [e1] at q3
    · rw [if_pos ⟨q1, q3⟩, jct_in (leafT (ty := 88) rfl rfl (by decide) ⟨q1, q2, q3⟩), e_X54_sort, e3]
    · rw [if_neg (by omega), if_pos ⟨q1, q3⟩, jct_in (leafT (ty := 89) rfl rfl (by decide) ⟨q1, q2, q3⟩), e_X55_sort, e3]
    · rw [if_neg (by omega), if_neg (by omega), if_pos ⟨q1, q3⟩, jct_in (leafT (ty := 92) rfl rfl (by decide) ⟨q1, q2, q3⟩), e_X58_sort, e3]
    · rw [if_neg (by omega), if_neg (by omega), if_neg (by omega), if_pos ⟨q1, q3⟩, jct_in (leafT (ty := 93) rfl rfl (by decide) ⟨q1, q2, q3⟩), e_X59_sort]
      by_cases c2 : d 5 k = 2
      · rw [(s2 c2).1, if_neg (by decide), c2]
      · have c3 : d 5 k = 3 := by omega
        rw [s3 c3, if_pos rfl, c3]
  rw [sort, Option.bind_some]
end jPla
