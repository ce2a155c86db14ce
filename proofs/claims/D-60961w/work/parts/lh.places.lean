/-! the linker: where all lies, both sides -/
set_option maxRecDepth 100000
section jLva
variable {s t u w : jS} {a b k m n o p v l x c f g i j H B C S K X : Int} {O : Int → Int → Int → Int → Int} {d e z y : Int → Int → Int} {G : Int → Int}
theorem c_layD (h : jf s 40 B 19 = 1) : m_X36_lay s B = some (s, 0) := by
  rw [em_X36_lay]; unfold dm_X36_lay
  rw [h, if_neg (by decide)]
theorem c_sortK (hp : cPc s B d k) (g5 : 0 ≤ d 5 k ∧ d 5 k ≤ 4) : mp_X53_sort s (poK s B k) = some (d 5 k) := by
  obtain ⟨⟨q1, q2, q3⟩, -, -, -, -, -, s2, s3⟩ := hp
  rw [emp_X53_sort]; unfold dmp_X53_sort
  have kk := kOf_c (f := d 5 k)
  rcases kk with ⟨e1, e2, e3⟩ | ⟨e1, e2, e3⟩ | ⟨e1, e2, e3⟩ | ⟨e1, e2, e3, e4, e5⟩ <;> rw [e1] at q3
  · rw [if_pos ⟨q1, q3⟩, jct_in (leafT (ty := 88) rfl rfl (by decide) ⟨q1, q2, q3⟩), e_X54_sort, e3]
  · rw [if_neg (by omega), if_pos ⟨q1, q3⟩, jct_in (leafT (ty := 89) rfl rfl (by decide) ⟨q1, q2, q3⟩), e_X55_sort, e3]
  · rw [if_neg (by omega), if_neg (by omega), if_pos ⟨q1, q3⟩, jct_in (leafT (ty := 92) rfl rfl (by decide) ⟨q1, q2, q3⟩), e_X58_sort, e3]
  · rw [if_neg (by omega), if_neg (by omega), if_neg (by omega), if_pos ⟨q1, q3⟩, jct_in (leafT (ty := 93) rfl rfl (by decide) ⟨q1, q2, q3⟩), e_X59_sort]
    by_cases c2 : d 5 k = 2
    · rw [(s2 c2).1, if_neg (by decide), c2]
    · have c3 : d 5 k = 3 := by omega
      rw [s3 c3, if_pos rfl, c3]
/-- questions about a piece, once all is told -/
theorem c_pieceD (h : cLs s B d) (l : cLd s B d) (h19 : jf s 40 B 19 = 1) (v : vLy d) (k0 : 0 ≤ k) (k1 : k < d 0 1) : m_X36_piece s B k 0 = some (s, d 5 k) ∧ m_X36_piece s B k 2 = some (s, szK d k (plK d k)) ∧ m_X36_piece s B k 3 = some (s, plK d k) := by
  have v1 := v.2.1
  have hp := h.2.2.2.2.1 k k0 k1
  obtain ⟨⟨g1, g2⟩, ⟨p0, p1, -⟩, -⟩ := v.2.2.2.2.2.2.1 k k0 k1
  obtain ⟨⟨a1, a2, a3⟩, -, -, b4, -⟩ := h.2.2.2.1 _ p0 p1
  have j0 : jrp s [(72, 0), (73, 0), (76, 4), (77, 4)] (poK s B k) = some (poP s B (d 11 k)) := by
    have := jrp_pc (i := 0) hp (.inl rfl)
    rw [hp.2.1.1] at this; exact this
  have j1 : jrp s [(72, 1), (73, 1), (76, 5), (77, 5)] (poK s B k) = some (plK d k) := by
    have := jrp_pc (i := 1) hp (.inr (.inl rfl))
    rw [l.1 k k0 k1] at this; exact this
  have st : ∀ w, m_X36_piece s B k w = if w = 0 then some (s, d 5 k) else if w = 1 then u_X36_piece_76 s B (poK s B k) 0 else if w = 2 then some (s, szK d k (plK d k)) else if w = 3 then some (s, plK d k) else m_X36_piece s B k w := fun w => by
    by_cases c0 : w = 0
    · rw [if_pos c0, em_X36_piece]; unfold dm_X36_piece
      rw [e_X36_isPiece, h.2.1.2.1, W32_in (by omega) (by omega), if_pos (by omega), Option.bind_some, if_neg n10, c_layD h19, Option.bind_some]
      dsimp only
      rw [jlt_in k0 (by omega), Option.bind_some, c_moving hp ⟨g1, g2⟩, Option.bind_some, if_pos c0, c_sortK hp ⟨g1, g2⟩, Option.bind_some]
    rw [if_neg c0]
    by_cases c1 : w = 1
    · rw [if_pos c1, em_X36_piece]; unfold dm_X36_piece
      rw [e_X36_isPiece, h.2.1.2.1, W32_in (by omega) (by omega), if_pos (by omega), Option.bind_some, if_neg n10, c_layD h19, Option.bind_some]
      dsimp only
      rw [jlt_in k0 (by omega), Option.bind_some, c_moving hp ⟨g1, g2⟩, Option.bind_some, if_neg c0, if_pos c1]
    rw [if_neg c1]
    by_cases c2 : w = 2
    · rw [if_pos c2, em_X36_piece]; unfold dm_X36_piece
      rw [e_X36_isPiece, h.2.1.2.1, W32_in (by omega) (by omega), if_pos (by omega), Option.bind_some, if_neg n10, c_layD h19, Option.bind_some]
      dsimp only
      rw [jlt_in k0 (by omega), Option.bind_some, c_moving hp ⟨g1, g2⟩, Option.bind_some, if_neg c0, if_neg c1, if_pos c2, j0, Option.bind_some, jrd_in a1 a3, Option.bind_some, b4, if_pos rfl, c_sizeK v hp k0 k1 (l.1 k k0 k1) (plK_lo v k0 k1), Option.bind_some]
    rw [if_neg c2]
    by_cases c3 : w = 3
    · rw [if_pos c3, em_X36_piece]; unfold dm_X36_piece
      rw [e_X36_isPiece, h.2.1.2.1, W32_in (by omega) (by omega), if_pos (by omega), Option.bind_some, if_neg n10, c_layD h19, Option.bind_some]
      dsimp only
      rw [jlt_in k0 (by omega), Option.bind_some, c_moving hp ⟨g1, g2⟩, Option.bind_some, if_neg c0, if_neg c1, if_neg c2, if_pos c3, j0, Option.bind_some, jrd_in a1 a3, Option.bind_some, b4, if_pos rfl, j1, Option.bind_some]
    rw [if_neg c3]
  refine ⟨by rw [st, if_pos rfl], by rw [st, if_neg (by decide), if_neg (by decide), if_pos rfl], by rw [st, if_neg (by decide), if_neg (by decide), if_neg (by decide), if_pos rfl]⟩
theorem c_spanD (h : cLs s B d) (l : cLd s B d) (h19 : jf s 40 B 19 = 1) (v : vLy d) (p0 : 0 ≤ p) (p1 : p < d 0 0) : m_X36_span s B p 1 = some (s, paB d p) := by
  have v0 := v.1
  obtain ⟨⟨a1, a2, a3⟩, -, -, b4, -⟩ := h.2.2.2.1 _ p0 p1
  rw [em_X36_span]; unfold dm_X36_span
  rw [e_X36_isPart, h.2.1.1, W32_in (by omega) (by omega), if_pos (by omega), Option.bind_some, if_neg n10, c_layD h19, Option.bind_some]
  dsimp only
  rw [jlt_in p0 (by omega), Option.bind_some, if_neg (by decide), if_pos rfl, jrd_in a1 a3, Option.bind_some, b4, if_pos rfl, jrd_in a1 a3, Option.bind_some, (l.2.1 p p0 p1).1]
/-- a place of a section, by its piece -/
def plV (d z : Int → Int → Int) (k i : Int) : Int := if d 5 k = 0 then plK d k + (i - z 0 k) else if i = z 0 k then plK d k else plK d k + szK d k (plK d k)
theorem plV_lo (v : vLy d) (hI : pcI O d z k) (k0 : 0 ≤ k) (k1 : k < d 0 1) (i0 : 0 ≤ i) (i1 : i ≤ 4096) : -4096 ≤ plV d z k i ∧ plV d z k i ≤ 7110000 := by
  have p := plK_lo v k0 k1
  have q := szK_lo (a := plK d k) v k0 k1
  have h := hI.1
  unfold plV
  split
  · omega
  split <;> omega
theorem tLs.sz (t1 : tLs t X d) (t2 : tLq t X d) (v : vLy d) (k0 : 0 ≤ k) (k1 : k < d 0 1) : jf t 1000 (X + 13) k = szK d k (plK d k) := by
  obtain ⟨-, q2, q3, -⟩ := t1.2.2.2.2.1 k k0 k1
  obtain ⟨g5, -⟩ := v.2.2.2.2.2.2.1 k k0 k1
  unfold szK
  by_cases c0 : d 5 k = 0
  · rw [if_pos c0]; exact q2 c0
  · rw [if_neg c0]
    by_cases c4 : d 5 k = 4
    · have := ((t2.1 k k0 k1).2 c4).2
      unfold szK at this
      rw [if_neg c0] at this; exact this
    · rw [if_neg c4]; exact q3 (by unfold mvK; omega)
theorem x_place (h : LZD C H S O s t e d z G) (x0 : 0 ≤ x) (x1 : x < 6) (hS : sIn S x) (j0 : 0 ≤ j) (j1 : j < 4) (i0 : 0 ≤ i) (i1 : i ≤ 4096) : ∃ k, (0 ≤ k ∧ k < d 0 1) ∧ pcA d z (4 * nIn S x.toNat + j) i k ∧ m_X35_placeOf s (C + 4275) x j i = some (s, plV d z k i) ∧ m_X37_address_2 t H x j i = some (plV d z k i) := by
  obtain ⟨v, ⟨c1, c2, c3⟩, ⟨t1, t2⟩, ⟨p1, p2⟩, ⟨r1, r2, r3⟩, ⟨hk, -⟩, -⟩ := h
  obtain ⟨⟨q1, q2, q3⟩, q4⟩ := r1.1 x j x0 x1 hS j0 j1
  have hI := r1.2.2
  have nx := nIn_lo (S := S) x.toNat
  have v1 := v.2.1
  have v0 := v.1
  obtain ⟨k, e1, a1⟩ := c_pieceAt p1 q3 v (by omega) q4 i0
  obtain ⟨k2, e2, a2⟩ := t_pieceAt p2 q3 v hI (by omega) q4 i0
  have := pcA.one q3 a1 a2
  subst this
  obtain ⟨-, -, ⟨d1, d2, d3⟩, -⟩ := v.2.2.2.2.1 _ (by omega) q4
  have hkk : 0 ≤ k ∧ k < d 0 1 := by have := a1.1; omega
  have pD := c_pieceD c1 c2 c3 v hkk.1 hkk.2
  have lo := plV_lo v (hI k hkk.1 hkk.2) hkk.1 hkk.2 i0 i1
  have pl := plK_lo v hkk.1 hkk.2
  have zz := (hI k hkk.1 hkk.2).1
  have J25 : jlt s 1000 (C + 4275 + 25) 256 k = some (z 0 k) := by rw [jlt_in hkk.1 (by omega), (p1.2.1 k hkk.1 hkk.2).1]
  have J197 : jlt t 1000 (H + 197) 256 k = some (z 0 k) := by rw [jlt_in hkk.1 (by omega), (p2.1 k hkk.1 hkk.2).1]
  have J199 : jlt t 1000 (H + 199) 256 k = some (z 2 k) := by rw [jlt_in hkk.1 (by omega), (p2.1 k hkk.1 hkk.2).2.2]
  have J20 : jlt t 1000 (H + 93 + 20) 256 k = some (plK d k) := by rw [jlt_in hkk.1 (by omega), (t2.1 k hkk.1 hkk.2).1]
  have J13 : jlt t 1000 (H + 93 + 13) 256 k = some (szK d k (plK d k)) := by rw [jlt_in hkk.1 (by omega), t1.sz t2 v hkk.1 hkk.2]
  have z2 := (hI k hkk.1 hkk.2).z2
  have zs := szK_lo (a := plK d k) v hkk.1 hkk.2
  refine ⟨k, hkk, a1, ?_, ?_⟩
  · rw [em_X35_placeOf]; unfold dm_X35_placeOf
    rw [c_partOf hk.2.1 x0 x1 hS j0 j1, Option.bind_some, e1, Option.bind_some, pD.2.2, Option.bind_some]
    dsimp only
    rw [pD.1, Option.bind_some]
    dsimp only
    rw [J25, Option.bind_some]
    unfold plV
    by_cases c : d 5 k = 0
    · rw [if_pos c, if_pos c, W64_in (z := plK d k + i) (by omega) (by omega), W64_in (by omega) (by omega)]
      rw [show plK d k + i - z 0 k = plK d k + (i - z 0 k) by omega]
    · rw [if_neg c, if_neg c, Option.bind_some]
      by_cases c' : i = z 0 k
      · rw [if_pos c', if_pos c']
      · rw [if_neg c', if_neg c', pD.2.1, Option.bind_some]
        dsimp only
        rw [W32_in (by omega) (by omega)]
  · rw [em_X37_address_2]; unfold dm_X37_address_2
    rw [W32_in (z := 4 * x) (by omega) (by omega), W32_in (by omega) (by omega), jlt_in (by omega) (by omega), Option.bind_some, q1, e2, Option.bind_some, J199, J197, J20, J13]
    simp only [Option.bind_some]
    unfold plV
    by_cases c : d 5 k = 0
    · rw [if_pos (z2.mpr c), if_pos c, W32_in (z := plK d k + i) (by omega) (by omega), W32_in (by omega) (by omega)]
      rw [show plK d k + i - z 0 k = plK d k + (i - z 0 k) by omega]
    · rw [if_neg (fun q => c (z2.mp q)), if_neg c]
      by_cases c' : i = z 0 k
      · rw [if_pos c', if_pos c']
      · rw [if_neg c', if_neg c', W32_in (by omega) (by omega)]
/-- what a label's place is -/
def lbP (d : Int → Int → Int) (k a : Int) : Int := if d 5 k = 0 then plK d k + a else if a = 0 then plK d k else plK d k + szK d k (plK d k)
/-- a symbol that lies somewhere -/
theorem x_symP (h : LZD C H S O s t e d z G) (hX : vsy S O X) (h0 : 0 ≤ sy O X 0) (h4 : sy O X 0 ≤ 4) : ∃ r, m_X35_placeOf_2 s (C + 4275) (X / 100) (syA C X) = some (s, r) ∧ m_X37_symbolPlace t H X = some r ∧ jin r ∧ (¬ sy O X 0 = 4 → -4096 ≤ r ∧ r ≤ 7110000) ∧ ∀ k a, syT S O d z X k a → r = lbP d k a := by
  have hk := h.2.2.2.2.2.1.1
  obtain ⟨-, y1, ⟨y2, y3, -, -⟩, y4, y5⟩ := hk.sym hX
  have hX0 := hX.1
  have J177 : jlt t 1000 (H + 177) 600 X = some (sy O X 0) := by rw [jlt_in (by omega) (by omega), y5.1]
  have J178 : jlt t 1000 (H + 178) 600 X = some (sy O X 1) := by rw [jlt_in (by omega) (by omega), y5.2.1]
  have jn1 := y4.2.2.1
  rw [em_X35_placeOf_2, em_X37_symbolPlace]; unfold dm_X35_placeOf_2 dm_X37_symbolPlace
  rw [jrd_in y2 y3, jrd_in y2 y3, y1.1, y1.2.1, J177, J178]
  simp only [Option.bind_some]
  by_cases c : sy O X 0 = 4
  · rw [if_pos c, if_neg (by omega)]
    exact ⟨_, rfl, rfl, jn1, fun q => absurd c q, fun k a q => by have := q.1; omega⟩
  · obtain ⟨q1, q2, q3, -⟩ := h.2.2.2.2.1.1.sec hk hX h0 (by omega)
    have v1 := h.1.1
    have sz4 : O (X / 100) 1 (sy O X 0) 0 ≤ 4096 := by
      have := ((hk.2.2.1 (X / 100) (by omega) (by omega) hX.2.1).2.2.1.1 (sy O X 0) h0 (by omega)).2.1
      split at this <;> omega
    obtain ⟨k, hkk, a1, e1, e2⟩ := x_place h (x := X / 100) (j := sy O X 0) (i := sy O X 1) (by omega) (by omega) hX.2.1 h0 (by omega) q1.1 (by omega)
    have lo := plV_lo h.1 (h.2.2.2.2.1.1.2.2 k hkk.1 hkk.2) hkk.1 hkk.2 q1.1 (show sy O X 1 ≤ 4096 by omega)
    rw [if_neg c, if_pos (by omega), jdv_in (by decide), I_div_n (by omega) (by omega) (by decide) (by decide), Option.bind_some, e1, e2, Option.bind_some, Option.bind_some]
    refine ⟨_, rfl, rfl, ⟨by omega, by omega⟩, fun _ => lo, fun m a q => ?_⟩
    obtain ⟨-, g2, g3⟩ := q
    have := pcA.one q2 a1 g2
    subst this
    unfold plV lbP
    rw [g3]
    by_cases c0 : d 5 k = 0
    · rw [if_pos c0, if_pos c0, if_pos c0]
    · rw [if_neg c0, if_neg c0, if_neg c0]
      by_cases c1 : sy O X 1 = z 0 k
      · rw [if_pos c1, if_pos c1, if_pos rfl]
      · rw [if_neg c1, if_neg c1, if_neg n10]
end jLva
