/-! the linker: whether a relocation's bytes lie as they must, each side *-/
set_option maxRecDepth 100000
section jLri
variable {s t u w s' t' : jS} {a b k m n o p q v l x c f g i j A H C K S X P Q rr n' : Int} {O : Int → Int → Int → Int → Int} {d e z y : Int → Int → Int} {G : Int → Int}
/-- its bytes lie as they must -/
abbrev gdR (O : Int → Int → Int → Int → Int) (d z : Int → Int → Int) (x j k : Int) : Prop := z 2 k = 300 * x + j ∨ (d 5 k = 0 ∧ O x 5 j 1 + kW (O x 5 j 2) (O x 5 j 4) ≤ z 0 k + z 1 k)
theorem LZD.by (h : LZD C H S O s t e d z G) (k0 : 0 ≤ k) (k1 : k < d 0 1) (i0 : 0 ≤ i) (i1 : i ≤ 4096) (o0 : 0 ≤ o) (o1 : o < 4) : -5000000 ≤ plV d z k i - ouB d o ∧ plV d z k i - ouB d o ≤ 7110000 := by
  have v := h.1
  have := plV_lo v (h.2.2.2.2.1.1.2.2 k k0 k1) k0 k1 i0 i1
  have := ouB_lo v o0 o1
  omega
theorem c_headR (h : rlS C H S O s t e d z G) (x0 : 0 ≤ x) (x1 : x < 6) (hS : sIn S x) (j0 : 0 ≤ j) (j1 : j < O x 2 2 0) (hu : jf s 39 (C + 4275) 35 = x) (hk : jf s 39 (C + 4275) 36 = j) (h51 : ¬ O x 5 j 2 = 51) (h43 : ¬ (O x 5 j 2 = 43 ∧ O x 5 j 4 = 0)) (k0 : 0 ≤ k) (k1 : k < d 0 1) (a1 : pcA d z (4 * nIn S x.toNat + O x 5 j 0) (O x 5 j 1) k) (e1 : m_X35_pieceAt s (C + 4275) (4 * nIn S x.toNat + O x 5 j 0) (O x 5 j 1) = some k) (e27 : jf s 1000 (C + 4275 + 27) k = if z 2 k = -1 then -1 else z 2 k % 300) (ow : z 2 k = 300 * x + j ↔ O x 5 j 0 = 0 ∧ (if z 2 k = -1 then -1 else z 2 k % 300) = j) :
    (¬ gdR O d z x j k → ∃ s1, cRS C s s1 ∧ ∀ u e, m_X35_need s1 (C + 4275) 0 7 = some (u, true, e) → m_X35_relocate s (C + 4275) (rlA (fAt C x + 614) j) = some (u, true, e)) ∧
    (gdR O d z x j k → z 2 k = 300 * x + j → O x 5 j 2 = 43 → ∃ s1, cRS C s s1 ∧ (∀ o p, cBy s1 C o p = cBy s C o p) ∧ m_X35_relocate s (C + 4275) (rlA (fAt C x + 614) j) = some (s1, false, 0)) ∧
    (gdR O d z x j k → ¬ (z 2 k = 300 * x + j ∧ O x 5 j 2 = 43) → ∃ s3, cRS C s s3 ∧ (∀ o p, cBy s3 C o p = cBy s C o p) ∧ (jf s3 39 (C + 4275) 37 = (if z 2 k = 300 * x + j then k else -1) ∧ jf s3 39 (C + 4275) 38 = plV d z k (O x 5 j 1) - ouB d (O x 5 j 0) ∧ jf s3 39 (C + 4275) 41 = plV d z k (O x 5 j 1)) ∧ m_X35_relocate s (C + 4275) (rlA (fAt C x + 614) j) = relT s3 (C + 4275) (rlA (fAt C x + 614) j) (kW (O x 5 j 2) (O x 5 j 4)) (O x 5 j 0)) := by
  obtain ⟨⟨r0, r1⟩, ⟨l0, l1, l2, l3, l4⟩, hut, vo, g, j3⟩ := h.rl x0 x1 hS j0 j1
  obtain ⟨m0, m1, m2, m3, m4⟩ := rel_lo vo g j0 j1
  have kk := (vo.2.2.2.2.2 j j0 j1).2.2.2.2.1
  have wd := (wd_ok (k := O x 5 j 2) (a := O x 5 j 4)).1 kk
  have v := h.1.1
  have v1 := v.2.1
  have nx := nIn_lo (S := S) x.toNat
  obtain ⟨a, ha⟩ : ∃ a, a = rlA (fAt C x + 614) j := ⟨_, rfl⟩
  rw [← ha] at r0 r1 l0 l1 l2 l3 l4 ⊢
  have hI := h.1.2.2.2.2.1.1.2.2 k k0 k1
  obtain ⟨p1, -⟩ := h.1.2.2.2.1
  obtain ⟨c25, c26, -⟩ := p1.2.1 k k0 k1
  -- up to the choice of its piece
  have hd : m_X35_relocate s (C + 4275) a = u_X35_relocate_85 s (C + 4275) a (kW (O x 5 j 2) (O x 5 j 4)) (O x 5 j 0) k (if z 2 k = 300 * x + j then 1 else 0) := by
    have J27 : jlt s 1000 (C + 4275 + 27) 256 k = some (if z 2 k = -1 then -1 else z 2 k % 300) := by rw [jlt_in k0 (by omega), e27]
    have e26 : u_X35_relocate_26 s (C + 4275) a = u_X35_relocate_85 s (C + 4275) a (kW (O x 5 j 2) (O x 5 j 4)) (O x 5 j 0) k (if z 2 k = 300 * x + j then 1 else 0) := by
      rw [eu_X35_relocate_26]; unfold du_X35_relocate_26
      rw [jrd_in r0 r1, jrd_in r0 r1, jrd_in r0 r1, jrd_in r0 r1, l0, l1, l2, l4]
      simp only [Option.bind_some]
      rw [e_X51_width, Option.bind_some, wd, hu, c_partOf h.1.2.2.2.2.2.1.1.2.1 x0 x1 hS m0.1 (by omega), Option.bind_some, e1, Option.bind_some, J27, Option.bind_some, hk]
      by_cases c1 : (if z 2 k = -1 then -1 else z 2 k % 300) = j
      · rw [if_pos c1]
        by_cases c2 : O x 5 j 0 = 0
        · rw [if_pos c2, if_pos (ow.mpr ⟨c2, c1⟩)]
        · rw [if_neg c2, if_neg (fun q => c2 (ow.mp q).1), eu_X35_relocate_84]; rfl
      · rw [if_neg c1, if_neg (fun q => c1 (ow.mp q).2), eu_X35_relocate_84]; rfl
    rw [em_X35_relocate]; unfold dm_X35_relocate
    rw [jrd_in r0 r1, jrd_in r0 r1, l2, l4, Option.bind_some, if_neg h51, Option.bind_some]
    by_cases c : O x 5 j 2 = 43
    · rw [if_pos c, Option.bind_some, if_neg (fun q => h43 ⟨c, q⟩), e26]
    · rw [if_neg c, e26]
  obtain ⟨K, hK⟩ : ∃ K, K = if z 2 k = 300 * x + j then k else -1 := ⟨_, rfl⟩
  obtain ⟨s1, E1⟩ : ∃ s1, s1 = jp s 39 (C + 4275) 37 K := ⟨_, rfl⟩
  obtain ⟨f1, p_1, -⟩ := jpF E1
  have R1 : cRS C s s1 := cRS.rfl.wr E1 (by omega)
  have m1s : jSm s s1 := R1.1
  have h1 := h.rw R1.rw (tRW.rfl (H := H) (t := t))
  obtain ⟨⟨r0', r1'⟩, ⟨l0', l1', l2', l3', l4'⟩, -⟩ := h1.rl x0 x1 hS j0 j1
  rw [← ha] at r0' r1' l0' l1' l2' l3' l4'
  obtain ⟨-, ⟨c1, c2, c3⟩, -⟩ := id h1.1
  have pD := c_pieceD c1 c2 c3 v k0 k1
  have by1 : ∀ o p, cBy s1 C o p = cBy s C o p := fun o p => f1 _ _ _ (by omega)
  -- behind the choice
  have h99 : ∀ y, (y = if z 2 k = 300 * x + j then 1 else 0) → u_X35_relocate_85 s (C + 4275) a (kW (O x 5 j 2) (O x 5 j 4)) (O x 5 j 0) k y = if z 2 k = 300 * x + j then u_X35_relocate_150 s1 (C + 4275) a (kW (O x 5 j 2) (O x 5 j 4)) (O x 5 j 0) 1 1 (C + 4275) else if d 5 k = 0 ∧ O x 5 j 1 + kW (O x 5 j 2) (O x 5 j 4) ≤ z 0 k + z 1 k then u_X35_relocate_150 s1 (C + 4275) a (kW (O x 5 j 2) (O x 5 j 4)) (O x 5 j 0) 0 1 (C + 4275) else u_X35_relocate_150 s1 (C + 4275) a (kW (O x 5 j 2) (O x 5 j 4)) (O x 5 j 0) 0 0 (C + 4275) := fun y hy => by
    have J25 : jlt s1 1000 (C + 4275 + 25) 256 k = some (z 0 k) := by rw [jlt_in k0 (by omega), f1 _ _ _ (by omega), c25]
    have J26 : jlt s1 1000 (C + 4275 + 26) 256 k = some (z 1 k) := by rw [jlt_in k0 (by omega), f1 _ _ _ (by omega), c26]
    have zz := hI.1
    rw [eu_X35_relocate_85]; unfold du_X35_relocate_85
    by_cases c : z 2 k = 300 * x + j
    · rw [if_pos c] at hy hK ⊢
      rw [hy, if_neg n10, eu_X35_relocate_99]; unfold du_X35_relocate_99
      simp only [jls]
      rw [← hK, ← E1, if_neg n10, eu_X35_relocate_145]; rfl
    · rw [if_neg c] at hy hK ⊢
      rw [hy, if_pos rfl, eu_X35_relocate_99]; unfold du_X35_relocate_99
      simp only [jls]
      rw [← hK, ← E1, if_pos trivial, pD.1, Option.bind_some]
      dsimp only
      by_cases c0 : d 5 k = 0
      · rw [if_pos c0, jrd_in r0' r1', Option.bind_some, l1', J25, J26, Option.bind_some, Option.bind_some, W32_in (z := z 0 k + z 1 k) (by omega) (by omega), W32_in (by omega) (by omega)]
        by_cases cl : z 0 k + z 1 k < O x 5 j 1 + kW (O x 5 j 2) (O x 5 j 4)
        · rw [if_pos cl, if_neg (by omega), eu_X35_relocate_149]; rfl
        · rw [if_neg cl, if_pos ⟨c0, by omega⟩, eu_X35_relocate_145]; rfl
      · rw [if_neg c0, if_neg (fun q => c0 q.1), eu_X35_relocate_149]; rfl
  rw [hd, h99 _ rfl]
  -- from its place on
  have go : ∀ y, y = (if z 2 k = 300 * x + j then (1 : Int) else 0) → ¬ (z 2 k = 300 * x + j ∧ O x 5 j 2 = 43) → ∃ s3, cRS C s s3 ∧ (∀ o p, cBy s3 C o p = cBy s C o p) ∧ (jf s3 39 (C + 4275) 37 = K ∧ jf s3 39 (C + 4275) 38 = plV d z k (O x 5 j 1) - ouB d (O x 5 j 0) ∧ jf s3 39 (C + 4275) 41 = plV d z k (O x 5 j 1)) ∧ u_X35_relocate_150 s1 (C + 4275) a (kW (O x 5 j 2) (O x 5 j 4)) (O x 5 j 0) y 1 (C + 4275) = relT s3 (C + 4275) a (kW (O x 5 j 2) (O x 5 j 4)) (O x 5 j 0) := fun y hy hn => by
    obtain ⟨k', kk', ak', ep, -⟩ := x_place h1.1 x0 x1 hS (j := O x 5 j 0) (i := O x 5 j 1) m0.1 (by omega) m1 (by omega)
    have ek : k' = k := pcA.one (h.1.2.2.2.2.1.1.1 x (O x 5 j 0) x0 x1 hS m0.1 (by omega)).1.2.2 ak' a1
    rw [ek] at ep
    have bd := h.1.by k0 k1 m1 (show O x 5 j 1 ≤ 4096 by omega) m0.1 (show O x 5 j 0 < 4 by omega)
    have pb := plV_lo v hI k0 k1 m1 (show O x 5 j 1 ≤ 4096 by omega)
    obtain ⟨s2, E2⟩ : ∃ s2, s2 = jp s1 39 (C + 4275) 41 (plV d z k (O x 5 j 1)) := ⟨_, rfl⟩
    obtain ⟨f2, p_2, -⟩ := jpF E2
    obtain ⟨s3, E3⟩ : ∃ s3, s3 = jp s2 39 (C + 4275) 38 (plV d z k (O x 5 j 1) - ouB d (O x 5 j 0)) := ⟨_, rfl⟩
    obtain ⟨f3, p_3, -⟩ := jpF E3
    have R2 : cRS C s s2 := R1.wr E2 (by omega)
    have h2 := h.rw R2.rw (tRW.rfl (H := H) (t := t))
    have e170 : u_X35_relocate_170 s1 (C + 4275) a (kW (O x 5 j 2) (O x 5 j 4)) (O x 5 j 0) = relT s3 (C + 4275) a (kW (O x 5 j 2) (O x 5 j 4)) (O x 5 j 0) := by
      rw [eu_X35_relocate_170]; unfold du_X35_relocate_170
      rw [jrd_in r0' r1', Option.bind_some, l1', f1 _ _ _ (by omega), hu, ep, Option.bind_some]
      simp only [jls]
      rw [← E2, (h2.1.outC m0.1 (by omega)).1, Option.bind_some]
      dsimp only
      rw [p_2, W64_in (by omega) (by omega), l2i_in (by omega) (by omega), ← E3]
      rfl
    refine ⟨s3, R2.wr E3 (by omega), fun o p => ?_, ⟨?_, p_3, ?_⟩, ?_⟩
    · show jf s3 1001 _ _ = _
      rw [f3 _ _ _ (by omega), f2 _ _ _ (by omega)]; exact by1 o p
    · rw [f3 _ _ _ (by omega), f2 _ _ _ (by omega)]; exact p_1
    · rw [f3 _ _ _ (by omega)]; exact p_2
    · rw [eu_X35_relocate_150]; unfold du_X35_relocate_150
      rw [c_need1, Option.bind_some, jth_ff]
      dsimp only
      by_cases c : z 2 k = 300 * x + j
      · rw [if_pos c] at hy
        rw [hy, if_neg n10, jrd_in r0' r1', Option.bind_some, l2', if_neg (fun q => hn ⟨c, q⟩), e170]
      · rw [if_neg c] at hy
        rw [hy, if_pos rfl, e170]
  refine ⟨fun ng => ⟨s1, R1, fun u e hx => ?_⟩, fun gd hc h4 => ⟨s1, R1, by1, ?_⟩, fun gd hn => ?_⟩
  · rw [if_neg (fun q => ng (.inl q)), if_neg (fun q => ng (.inr q)), eu_X35_relocate_150]; unfold du_X35_relocate_150
    rw [hx, Option.bind_some]; rfl
  · rw [if_pos hc, eu_X35_relocate_150]; unfold du_X35_relocate_150
    rw [c_need1, Option.bind_some, jth_ff]
    dsimp only
    rw [if_neg n10, jrd_in r0' r1', Option.bind_some, l2', if_pos h4]
  · rw [← hK]
    by_cases c : z 2 k = 300 * x + j
    · rw [if_pos c]; exact go 1 (by rw [if_pos c]) hn
    · rcases gd with q | q
      · exact absurd q c
      · rw [if_neg c, if_pos q]; exact go 0 (by rw [if_neg c]) hn
theorem t_headR (h : rlS C H S O s t e d z G) (x0 : 0 ≤ x) (x1 : x < 6) (hS : sIn S x) (j0 : 0 ≤ j) (j1 : j < O x 2 2 0) (hu : jf t 41 H 113 = x) (h51 : ¬ O x 5 j 2 = 51) (k0 : 0 ≤ k) (k1 : k < d 0 1) (a1 : pcA d z (4 * nIn S x.toNat + O x 5 j 0) (O x 5 j 1) k) (e203 : jf t 1000 (H + 203) (300 * x + j) = if z 2 k = 300 * x + j then k else -1) (o5 : z 2 k = 300 * x + j → O x 5 j 1 = z 0 k ∧ ¬ d 5 k = 0) :
    (¬ gdR O d z x j k → ∃ t1, tRS H t t1 ∧ ∀ y, m_X37_wrong t1 H 7 (300 * x + j) = some (y, 0) → m_X37_isPlacedRight t H (300 * x + j) = some (y, 0)) ∧
    (gdR O d z x j k → ∃ t1, tRS H t t1 ∧ (∀ o p, tBy t1 H o p = tBy t H o p) ∧ (jf t1 41 H 114 = (if z 2 k = 300 * x + j then k else -1) ∧ jf t1 41 H 115 = 4096 * O x 5 j 0 + (plV d z k (O x 5 j 1) - ouB d (O x 5 j 0)) ∧ jf t1 41 H 116 = plV d z k (O x 5 j 1)) ∧ m_X37_isPlacedRight t H (300 * x + j) = some (t1, 1)) := by
  obtain ⟨-, -, hut, vo, g, j3⟩ := h.rl x0 x1 hS j0 j1
  obtain ⟨m0, m1, m2, m3, m4⟩ := rel_lo vo g j0 j1
  obtain ⟨t0', t1', t2', -, t4'⟩ := t_relr hut j0 j1
  have v := h.1.1
  have v1 := v.2.1
  have v0 := v.1
  have nx := nIn_lo (S := S) x.toNat
  have hI := h.1.2.2.2.2.1.1.2.2 k k0 k1
  have zz := hI.1
  have z2 := hI.z2
  obtain ⟨⟨q1, q2, q3⟩, q4⟩ := h.1.2.2.2.2.1.1.1 x (O x 5 j 0) x0 x1 hS m0.1 (by omega)
  obtain ⟨-, p2⟩ := h.1.2.2.2.1
  obtain ⟨K, hK⟩ : ∃ K, K = if z 2 k = 300 * x + j then k else -1 := ⟨_, rfl⟩
  obtain ⟨t1, E1⟩ : ∃ t1, t1 = jp t 41 H 114 K := ⟨_, rfl⟩
  obtain ⟨f1, p_1, -⟩ := jpF E1
  have R1 : tRS H t t1 := tRS.rfl.wr E1 (by omega)
  have h1 := h.rw (cRW.rfl (C := C) (s := s)) R1.rw
  obtain ⟨-, -, hut1, -⟩ := h1.rl x0 x1 hS j0 j1
  have nd := t_needed hut1 vo x0 x1 j0 j1 h51
  have J184 : jlt t 1000 (H + 184) 1800 (300 * x + j) = some (O x 5 j 0) := by rw [jlt_in (by omega) (by omega), t0']
  have J203 : jlt t 1000 (H + 203) 1800 (300 * x + j) = some K := by rw [jlt_in (by omega) (by omega), e203, hK]
  have J202 : jlt t1 1000 (H + 202) 24 (4 * x + O x 5 j 0) = some (4 * nIn S x.toNat + O x 5 j 0) := by rw [jlt_in (by omega) (by omega), f1 _ _ _ (by omega), q1]
  have J185 : jlt t1 1000 (H + 185) 1800 (300 * x + j) = some (O x 5 j 1) := by rw [jlt_in (by omega) (by omega), f1 _ _ _ (by omega), t1']
  obtain ⟨e197, e198, e199⟩ := p2.1 k k0 k1
  have J199 : jlt t1 1000 (H + 199) 256 k = some (z 2 k) := by rw [jlt_in k0 (by omega), f1 _ _ _ (by omega), e199]
  have J197 : jlt t1 1000 (H + 197) 256 k = some (z 0 k) := by rw [jlt_in k0 (by omega), f1 _ _ _ (by omega), e197]
  have J198 : jlt t1 1000 (H + 198) 256 k = some (z 1 k) := by rw [jlt_in k0 (by omega), f1 _ _ _ (by omega), e198]
  obtain ⟨k2, ek2, a2⟩ := t_pieceAt h1.1.2.2.2.1.2 q3 v h.1.2.2.2.2.1.1.2.2 (by omega) q4 m1
  have := pcA.one q3 a2 a1
  rw [this] at ek2
  have J20 : jlt t1 1000 (H + 93 + 20) 256 k = some (plK d k) := by rw [jlt_in k0 (by omega), (h1.1.2.2.1.2.1 k k0 k1).1]
  have pl := plK_lo v k0 k1
  have pb := plV_lo v hI k0 k1 m1 (show O x 5 j 1 ≤ 4096 by omega)
  -- up to the check
  have hd : m_X37_isPlacedRight t H (300 * x + j) = u_X37_isPlacedRight_55 t1 H (300 * x + j) (O x 5 j 0) k := by
    rw [em_X37_isPlacedRight]; unfold dm_X37_isPlacedRight
    simp only [jls]
    rw [J184, J203, Option.bind_some, Option.bind_some, ← E1, p_1]
    by_cases c : z 2 k = 300 * x + j
    · rw [if_pos c] at hK
      rw [hK, if_neg (by omega)]
    · rw [if_neg c] at hK
      rw [hK, if_pos rfl, f1 _ _ _ (by omega), hu, W32_in (z := 4 * x) (by omega) (by omega), W32_in (z := 4 * x + O x 5 j 0) (by omega) (by omega), J202, Option.bind_some, J185, Option.bind_some, ek2, Option.bind_some]
  have h107 : m_X37_isPlacedRight t H (300 * x + j) = u_X37_isPlacedRight_107 t1 H (300 * x + j) (O x 5 j 0) k (if gdR O d z x j k then 1 else 0) := by
    rw [hd, eu_X37_isPlacedRight_55]; unfold du_X37_isPlacedRight_55
    rw [p_1]
    by_cases c : z 2 k = 300 * x + j
    · have hK' := hK
      rw [if_pos c] at hK'
      rw [if_pos (show gdR O d z x j k from .inl c), hK', if_neg (by omega), eu_X37_isPlacedRight_102]; rfl
    · have hK' := hK
      rw [if_neg c] at hK'
      rw [hK', if_pos rfl, J199, Option.bind_some]
      by_cases c0 : d 5 k = 0
      · rw [if_pos (z2.mpr c0), J185, nd, J197, J198, Option.bind_some, Option.bind_some, Option.bind_some, Option.bind_some, W32_in (z := z 0 k + z 1 k) (by omega) (by omega), W32_in (by omega) (by omega)]
        by_cases cl : z 0 k + z 1 k < O x 5 j 1 + kW (O x 5 j 2) (O x 5 j 4)
        · rw [if_pos cl, if_neg (show ¬ gdR O d z x j k from fun q => by rcases q with q | q; exact c q; omega), eu_X37_isPlacedRight_106]; rfl
        · rw [if_neg cl, if_pos (show gdR O d z x j k from .inr ⟨c0, by omega⟩), eu_X37_isPlacedRight_102]; rfl
      · rw [if_neg (fun q => c0 (z2.mp q)), if_neg (show ¬ gdR O d z x j k from fun q => by rcases q with q | q; exact c q; exact c0 q.1), eu_X37_isPlacedRight_106]; rfl
  refine ⟨fun ng => ⟨t1, R1, fun y hy => ?_⟩, fun gd => ?_⟩
  · rw [h107, if_neg ng, eu_X37_isPlacedRight_107]; unfold du_X37_isPlacedRight_107
    rw [if_pos rfl, hy, Option.bind_some, Wz_0]
  · obtain ⟨t2, E2⟩ : ∃ t2, t2 = jp t1 41 H 116 (plV d z k (O x 5 j 1)) := ⟨_, rfl⟩
    obtain ⟨f2, p_2, -⟩ := jpF E2
    have R2 : tRS H t t2 := R1.wr E2 (by omega)
    have h2 := h.rw (cRW.rfl (C := C) (s := s)) R2.rw
    obtain ⟨t3, E3⟩ : ∃ t3, t3 = jp t2 41 H 115 (4096 * O x 5 j 0 + (plV d z k (O x 5 j 1) - ouB d (O x 5 j 0))) := ⟨_, rfl⟩
    obtain ⟨f3, p_3, -⟩ := jpF E3
    have fin : ∀ y0, plK d k + y0 = plV d z k (O x 5 j 1) → u_X37_isPlacedRight_157 t1 H (O x 5 j 0) y0 (plK d k) H = some (t3, 1) := fun y0 hy => by
      rw [eu_X37_isPlacedRight_157]; unfold du_X37_isPlacedRight_157
      simp only [jls]
      rw [hy, W32_in (by omega) (by omega), ← E2, p_2, l2i_in (by omega) (by omega), h2.1.spotT m0.1 (by omega) (by omega) (by omega), Option.bind_some, ← E3, Wz_1]
    refine ⟨t3, R2.wr E3 (by omega), fun o p => ?_, ⟨?_, p_3, ?_⟩, ?_⟩
    · show jf t3 1000 _ _ = _
      rw [f3 _ _ _ (by omega), f2 _ _ _ (by omega), f1 _ _ _ (by omega)]
    · rw [f3 _ _ _ (by omega), f2 _ _ _ (by omega), p_1, hK]
    · rw [f3 _ _ _ (by omega), p_2]
    · rw [h107, if_pos gd, eu_X37_isPlacedRight_107]; unfold du_X37_isPlacedRight_107
      rw [if_neg n10, J20, Option.bind_some, p_1]
      by_cases c : z 2 k = 300 * x + j
      · have hK' := hK
        rw [if_pos c] at hK'
        obtain ⟨o1, o2⟩ := o5 c
        rw [hK', if_neg (by omega)]
        refine fin 0 ?_
        unfold plV; rw [if_neg o2, if_pos o1]; omega
      · have hK' := hK
        rw [if_neg c] at hK'
        rw [hK', if_pos rfl, J185, J197, Option.bind_some, Option.bind_some, W32_in (by omega) (by omega)]
        refine fin _ ?_
        rcases gd with q | q
        · exact absurd q c
        · unfold plV; rw [if_pos q.1]
end jLri
