/-! the linker: relocations of kinds 24 and 25, both sides *-/
set_option maxRecDepth 100000
section jLru
variable {s t u u1 w' s' t' t1 : jS} {a b k m mm n nn o p q v l x c f g i j A H C K S X X' P Q V D F M rr n' sec w r how val q0 kd wc wt sz Y y0 h' : Int} {O : Int → Int → Int → Int → Int} {d e z y : Int → Int → Int} {G B : Int → Int} {o' : Int → Int → Int → Int}
/-- where an upper word is, what it aims at, whether it's left out -/
def upI (d z : Int → Int → Int) (x h' k M P' : Int) : Prop := (0 ≤ k ∧ k < d 0 1) ∧ (-5000000000 ≤ M ∧ M ≤ 5000000000) ∧ (-10000000 ≤ P' ∧ P' ≤ 10000000) ∧ (z 2 k = 300 * x + h' → szK d k (plK d k) = 0 → nrV M ∨ nrV (M - gpK d)) ∧ (z 2 k = 300 * x + h' → 0 ≤ szK d k (plK d k))
theorem c_restB (h : rlS C H S O s t e d z G) (x0 : 0 ≤ x) (x1 : x < 6) (hS : sIn S x) (h0 : 0 ≤ h') (h1 : h' < O x 2 2 0) (k23 : O x 5 h' 2 = 23) (c35 : jf s 39 (C + 4275) 35 = x) (hX : vsy S O X') (ha : O x 5 h' 1 = sy O X' 1) (ht113 : jf t 41 H 113 = x) : ∃ k M P', upI d z x h' k M P' ∧
    (m_X35_rest s (C + 4275) how = u_X35_rest_224 s (C + 4275) how (fAt C x + 614) (syA C X') h' 1 (C + 4275) → m_X35_rest s (C + 4275) how = if z 2 k = 300 * x + h' ∧ szK d k (plK d k) = 0 then (if nrV M then (m_X35_based s (C + 4275) how 0 M).bind fun q15 => jth q15.2.1 (some (q15.1, true, q15.2.2)) (some (q15.1, false, 0)) else (m_X35_based s (C + 4275) how 3 (M - gpK d)).bind fun q14 => jth q14.2.1 (some (q14.1, true, q14.2.2)) (some (q14.1, false, 0))) else (m_X35_fit s (C + 4275) how 4 (loP (M - P'))).bind fun q4 => jth q4.2.1 (some (q4.1, true, q4.2.2)) (some (q4.1, false, 0))) ∧
    ∀ n w, m_X37_lowOfUpper t H n (300 * x + h') w = if z 2 k = 300 * x + h' ∧ szK d k (plK d k) = 0 then (if nrV M then (m_X37_lowWord t H n w M 0).bind fun q11 => some (q11.1, Wz q11.2) else (m_X37_lowWord t H n w (M - gpK d) 3).bind fun q10 => some (q10.1, Wz q10.2)) else (m_X37_lowWord t H n w (loP (M - P')) (-1)).bind fun q2 => some (q2.1, Wz q2.2) := by
  obtain ⟨⟨r0, r1⟩, ⟨l0', l1', l2', l3', l4'⟩, hut, vo, g, h3⟩ := h.rl x0 x1 hS h0 h1
  obtain ⟨tg, hXh, ad⟩ := rl_tgt vo g x0 x1 hS h0 h1 (by omega) (by omega)
  obtain ⟨m0, m1, m2, m3, -⟩ := rel_lo vo g h0 h1
  have sec0 : O x 5 h' 0 = 0 := by have := (g.2.2 h' h0 h1).1; omega
  obtain ⟨-, t1', -, t3', t4'⟩ := t_relr hut h0 h1
  obtain ⟨k, ⟨k0, k1⟩, a1, e11, eo, e1, e2, e27, e203, ow, own, -⟩ := x_own h x0 x1 hS h0 h1
  obtain ⟨val, f1, f2, vj, vl⟩ := x_value h.1 hXh
  rw [show (100 * x + O x 5 h' 3) / 100 = x by omega, show (100 * x + O x 5 h' 3) % 100 = O x 5 h' 3 by omega] at f1
  obtain ⟨k2, -, a2, p1, p2⟩ := x_place h.1 x0 x1 hS (j := 0) (i := O x 5 h' 1) (by decide) (by decide) m1 (by omega)
  obtain ⟨⟨q1, q2, q3⟩, q4⟩ := h.1.2.2.2.2.1.1.1 x 0 x0 x1 hS (by decide) (by decide)
  rw [sec0] at a1 e1 e2
  have := pcA.one q3 a2 a1
  subst this
  have v := h.1.1
  have v1 := v.2.1
  have v0' := vj.1
  have v1' := vj.2
  have a0 := ad.1
  have a1' := ad.2
  obtain ⟨M, hM⟩ : ∃ M, M = val + O x 5 h' 4 := ⟨_, rfl⟩
  have hI := h.1.2.2.2.2.1.1.2.2 k2 k0 k1
  have pb := plV_lo v hI k0 k1 m1 (show O x 5 h' 1 ≤ 4096 by omega)
  have gp := gpK_lo v
  obtain ⟨P', hP'⟩ : ∃ P', P' = plV d z k2 (O x 5 h' 1) := ⟨_, rfl⟩
  rw [← hP'] at pb p1 p2
  have k3 : z 2 k2 = 300 * x + h' → d 5 k2 = 3 := fun q => by
    rw [(own q).2.2.2.1, k23]; rfl
  have hsz : z 2 k2 = 300 * x + h' → 0 ≤ szK d k2 (plK d k2) := fun q => (szK_lo v k0 k1).1
  have hnr : z 2 k2 = 300 * x + h' → szK d k2 (plK d k2) = 0 → nrV M ∨ nrV (M - gpK d) := fun q zz => by
    have d3 := k3 q
    obtain ⟨s1, -⟩ := h.1.size k0 k1 (.inr (.inr d3))
    obtain ⟨n1, n2⟩ := h.1.near0 k0 k1 (.inr (.inr d3)) (by omega) (by omega)
    obtain ⟨o1, o2, -⟩ := h.1.own k0 k1 (.inr (.inr d3)) q (own q).2.2.2.2
    have : M = aimK d k2 := by
      rcases o1 with z1 | z1
      · exact absurd z1 n1
      · rw [hM, vl _ _ z1, ← o2]; rfl
    rw [this]; exact n2
  obtain ⟨c1, c2, c3⟩ := h.1.2.1
  have pD := c_pieceD c1 c2 c3 v k0 k1
  obtain ⟨t1s, t2s⟩ := h.1.2.2.1
  have J13 : jlt t 1000 (H + 93 + 13) 256 k2 = some (szK d k2 (plK d k2)) := by rw [jlt_in k0 (by omega), t1s.sz t2s v k0 k1]
  have J20 : jlt t 1000 (H + 93 + 20) 256 k2 = some (plK d k2) := by rw [jlt_in k0 (by omega), (t2s.1 k2 k0 k1).1]
  have h108 : jf t 41 H 108 = gpK d := h.1.2.2.2.2.2.2.2.1
  refine ⟨k2, M, P', ⟨⟨k0, k1⟩, by omega, by omega, hnr, hsz⟩, fun hh => ?_, fun n w => ?_⟩
  · obtain ⟨-, ⟨-, y2, -⟩, ⟨y3, y4, -⟩, -⟩ := h.1.2.2.2.2.2.1.1.sym hX
    have e320 : u_X35_rest_320 s (C + 4275) how (syA C X') M = (m_X35_fit s (C + 4275) how 4 (loP (M - P'))).bind fun q4 => jth q4.2.1 (some (q4.1, true, q4.2.2)) (some (q4.1, false, 0)) := by
      rw [eu_X35_rest_320]; unfold du_X35_rest_320
      rw [jrd_in y3 y4, Option.bind_some, y2, ← ha, c35, p1, Option.bind_some]
      dsimp only
      rw [W64_in (by omega) (by omega), c_lowerOf, Option.bind_some]
    have ep : C + 4275 + 1 = C + 4275 + 1 := rfl
    rw [hh, eu_X35_rest_224]; unfold du_X35_rest_224
    rw [c_need1, Option.bind_some, jth_ff]
    simp only [jlet]
    rw [jix_in h0 (by omega), Option.bind_some, show fAt C x + 614 + 4 + 309 + 1 * h' = rlA (fAt C x + 614) h' from rfl, c35, l3', f1, Option.bind_some]
    simp only [Option.bind_some]
    rw [l4', ← hM, W64_in (z := M) (by omega) (by omega), c35, c_partOf h.1.2.2.2.2.2.1.1.2.1 x0 x1 hS (by decide) (by decide), Option.bind_some, jrd_in y3 y4, Option.bind_some, y2, ← ha, e1, Option.bind_some, pD.1, Option.bind_some]
    dsimp only
    by_cases c : z 2 k2 = 300 * x + h'
    · have d3 := k3 c
      have em : (if z 2 k2 = -1 then -1 else z 2 k2 % 300) = h' := (ow.mp c).2
      rw [if_pos d3, jlt_in k0 (by omega), Option.bind_some, e27, em, if_pos rfl, pD.2.1, Option.bind_some]
      dsimp only
      have sz := hsz c
      by_cases cz : szK d k2 (plK d k2) = 0
      · rw [if_neg (by omega), if_pos ⟨c, cz⟩, c_isLowR, Option.bind_some]
        by_cases cn : nrV M
        · rw [if_pos (show -2048 ≤ M ∧ M ≤ 2047 from cn), if_neg n10, if_pos cn]
        · rw [if_neg (show ¬ (-2048 ≤ M ∧ M ≤ 2047) from cn), if_pos rfl, if_neg cn, h.1.gp, Option.bind_some]
          dsimp only
          rw [W64_in (by omega) (by omega)]
      · rw [if_pos (by omega), if_neg (fun q => cz q.2), e320]
    · rw [if_neg (show ¬ (z 2 k2 = 300 * x + h' ∧ szK d k2 (plK d k2) = 0) from fun q => c q.1), ← e320]
      by_cases d3 : d 5 k2 = 3
      · rw [if_pos d3, jlt_in k0 (by omega), Option.bind_some, e27, if_neg (fun q => c (ow.mpr ⟨sec0, q⟩))]
      · rw [if_neg d3]
  · rw [em_X37_lowOfUpper]; unfold dm_X37_lowOfUpper
    simp only [jlet]
    rw [jlt_in (by omega) (by omega), Option.bind_some, t3', ht113, W32_in (z := 100 * x) (by omega) (by omega), W32_in (by omega) (by omega), f2, Option.bind_some, jlt_in (by omega) (by omega), Option.bind_some, t4', ← hM, W64_in (z := M) (by omega) (by omega), jlt_in (by omega) (by omega), Option.bind_some, e203]
    have e150 : ∀ y, y = P' → u_X37_lowOfUpper_150 t H n w M y = (m_X37_lowWord t H n w (loP (M - P')) (-1)).bind fun q2 => some (q2.1, Wz q2.2) := fun y hy => by
      rw [eu_X37_lowOfUpper_150]; unfold du_X37_lowOfUpper_150
      rw [hy, W64_in (by omega) (by omega), t_low, Option.bind_some]
    by_cases c : z 2 k2 = 300 * x + h'
    · have d3 := k3 c
      rw [if_pos c, if_neg (by omega), J13, Option.bind_some]
      have ep : P' = plK d k2 := by
        rw [hP']; unfold plV
        rw [if_neg (by omega), if_pos (own c).2.1]
      by_cases cz : szK d k2 (plK d k2) = 0
      · rw [if_pos cz, if_pos ⟨c, cz⟩, t_isNearR, Option.bind_some]
        by_cases cn : nrV M
        · rw [if_pos (show -2048 ≤ M ∧ M ≤ 2047 from cn), if_neg n10, if_pos cn]
        · rw [if_neg (show ¬ (-2048 ≤ M ∧ M ≤ 2047) from cn), if_pos rfl, if_neg cn, h108, W64_in (by omega) (by omega), t_isNearR, Option.bind_some]
          have := hnr c cz
          have cg : nrV (M - gpK d) := by rcases this with q | q; exact absurd q cn; exact q
          rw [if_pos (show -2048 ≤ M - gpK d ∧ M - gpK d ≤ 2047 from cg), if_neg n10]
      · rw [if_neg cz, if_neg (fun q => cz q.2), eu_X37_lowOfUpper_114]; unfold du_X37_lowOfUpper_114
        rw [if_neg (by omega), J20, Option.bind_some, e150 _ ep.symm]
    · rw [if_neg c, if_pos rfl, if_neg (show ¬ (z 2 k2 = 300 * x + h' ∧ szK d k2 (plK d k2) = 0) from fun q => c q.1), eu_X37_lowOfUpper_114]; unfold du_X37_lowOfUpper_114
      rw [if_pos rfl, jlt_in (by omega) (by omega), Option.bind_some, t1', ht113, p2, Option.bind_some, e150 _ rfl]
end jLru
