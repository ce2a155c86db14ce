/-! the component reads a file of an image: a row, rows -/
section jIread2
variable {s t u : jS} {B N R n p f a b x y e k z v : Int} {g g' : Int → Int} {i : Int → Int → Int → Int} {L : List (Prop × Int × Int)} {c : Prop}
theorem and_pow2a : ∀ a b : Fin 64, decide ((64 * a.val + b.val + 1) &&& (64 * a.val + b.val) = 0) = decide (64 * a.val + b.val + 1 = 1 ∨ 64 * a.val + b.val + 1 = 2 ∨ 64 * a.val + b.val + 1 = 4 ∨ 64 * a.val + b.val + 1 = 8 ∨ 64 * a.val + b.val + 1 = 16 ∨ 64 * a.val + b.val + 1 = 32 ∨ 64 * a.val + b.val + 1 = 64 ∨ 64 * a.val + b.val + 1 = 128 ∨ 64 * a.val + b.val + 1 = 256 ∨ 64 * a.val + b.val + 1 = 512 ∨ 64 * a.val + b.val + 1 = 1024 ∨ 64 * a.val + b.val + 1 = 2048 ∨ 64 * a.val + b.val + 1 = 4096) := by decide +kernel
theorem and_pow2 {k : Nat} (h : k < 4096) : (k + 1) &&& k = 0 ↔ (k + 1 = 1 ∨ k + 1 = 2 ∨ k + 1 = 4 ∨ k + 1 = 8 ∨ k + 1 = 16 ∨ k + 1 = 32 ∨ k + 1 = 64 ∨ k + 1 = 128 ∨ k + 1 = 256 ∨ k + 1 = 512 ∨ k + 1 = 1024 ∨ k + 1 = 2048 ∨ k + 1 = 4096) := by
  have := decide_eq_decide.mp (and_pow2a ⟨k / 64, by omega⟩ ⟨k % 64, by omega⟩)
  simp only [] at this
  rwa [show 64 * (k / 64) + k % 64 = k by omega] at this
theorem pw2_al (h0 : 0 ≤ v) : ((¬ (v < 1) ∧ ¬ (4096 < v)) ∧ L_and v (W64 (v - 1)) = 0) ↔ pP2 v := by
  by_cases c : 1 ≤ v ∧ v ≤ 4096
  · have h' := and_pow2 (k := v.toNat - 1) (by omega)
    rw [W64_in (by omega) (by omega)]
    have e1 : L_and v (v - 1) = (((v.toNat - 1 + 1) &&& (v.toNat - 1) : Nat) : Int) := by
      rw [← L_and_nat (by omega) (by omega)]
      congr 1 <;> omega
    rw [e1]
    unfold pP2
    constructor
    · intro ⟨_, q⟩
      have := h'.mp (by omega)
      omega
    · intro q
      exact ⟨by omega, by have := h'.mpr (by omega); omega⟩
  · unfold pP2; constructor <;> intro q <;> omega
theorem i_over (C : iC s R B g n) (h : iH s u R B g n) (hd : Jd g n) (e0 : 0 ≤ e) (e1 : e < JE g) (hi : it g e 1 + it g e 4 ≤ n) (x0 : 0 ≤ x) (x1 : x ≤ 16384) (y0 : 0 ≤ y) (y1 : y ≤ 16384) : m_X28_isOver u R e x y = some (if 0 < y ∧ it g e 1 < x + y ∧ x < it g e 1 + it g e 4 then 1 else 0) := by
  have hn := C.1.2.1
  have v1 := it_lo C.1.by hd hn e0 e1 (k := 1) (by omega) (by omega)
  have v4 := it_lo C.1.by hd hn e0 e1 (k := 4) (by omega) (by omega)
  rw [em_X28_isOver]; unfold dm_X28_isOver
  rw [i_val C h hd e0 e1 (by omega) (by omega), Option.bind_some, i_val C h hd e0 e1 (k := 4) (by omega) (by omega), Option.bind_some, W32_in (z := it g e 1) (by omega) (by omega), W32_in (z := it g e 4) (by omega) (by omega), W32_in (z := x + y) (by omega) (by omega), Wz_0, Wz_1]
  by_cases c1 : 0 < y
  · rw [if_pos c1]
    by_cases c2 : it g e 1 < x + y
    · rw [if_pos c2, Option.bind_some, W32_in (z := it g e 1 + it g e 4) (by omega) (by omega)]
      by_cases c3 : x < it g e 1 + it g e 4
      · rw [if_pos c3, if_pos ⟨c1, c2, c3⟩]
      · rw [if_neg c3, if_neg (fun q => c3 q.2.2)]
    · rw [if_neg c2, if_neg (fun q => c2 q.2.1)]
  · rw [if_neg c1, if_neg (fun q => c1 q.1)]
theorem sg_c (v : Int) : m_X28_segmentOf u R v = some (if v = 5 then 0 else if v = 4 then 1 else if v = 6 then 2 else -1) := by rw [e_X28_segmentOf]
theorem i_row (C : iC s R B g n) (h : iH s u R B g n) (hw : iW u R g e) (hz : cIz u (R + 1)) (hd : Jd g n) (e0 : 0 ≤ e) (e1 : e < JE g) (hR : ∀ k, 0 ≤ k → k < e → Gd (JRow g n k)) : jE (m_X28_row u R e) (ckR (cOK fun t => iH s t R B g n ∧ iW t R g (e + 1) ∧ cIz t (R + 1)) (iBD s R) (JRow g n e)) := by
  have hn := C.1.2.1
  have F : ∀ k, 0 ≤ k → k < 8 → m_X28_field u R e k = some (jt' g e k) := fun k k0 k1 => i_field h hd hn e0 e1 k0 k1
  have T : ∀ k, 0 ≤ k → k < 8 → m_X28_number u R e k = some (it g e k) := fun k k0 k1 => i_num C h hd e0 e1 k0 k1
  have V : ∀ k, 0 ≤ k → k < 8 → 0 ≤ it g e k ∧ it g e k < 4294967296 := fun k k0 k1 => it_lo C.1.by hd hn e0 e1 k0 k1
  have v1 := V 1 (by omega) (by omega)
  have v4 := V 4 (by omega) (by omega)
  have v5 := V 5 (by omega) (by omega)
  have v7 := V 7 (by omega) (by omega)
  have v2 := V 2 (by omega) (by omega)
  have hd' := hd
  obtain ⟨d1, d2, d3, d4, d5, d6⟩ := hd'
  unfold JRow
  rw [em_X28_row]; unfold dm_X28_row
  rw [T 0 (by omega) (by omega), Option.bind_some]
  have e28 : u_X28_row_28 u R e (it g e 0) R = u_X28_row_33 u R e (it g e 0) 1 R := by rw [eu_X28_row_28]; rfl
  have ea : (if L_cmp (it g e 0) 0 = 0 then u_X28_row_28 u R e (it g e 0) R else if L_cmp (it g e 0) 1 = 0 then u_X28_row_28 u R e (it g e 0) R else if L_cmp (it g e 0) 4 = 0 then u_X28_row_28 u R e (it g e 0) R else u_X28_row_33 u R e (it g e 0) 0 R) = if it g e 0 = 0 ∨ it g e 0 = 1 ∨ it g e 0 = 4 then u_X28_row_33 u R e (it g e 0) 1 R else u_X28_row_33 u R e (it g e 0) 0 R := by
    rw [e28]
    simp only [L_cmp_0]
    by_cases c1 : it g e 0 = 0
    · rw [if_pos c1, if_pos (.inl c1)]
    · rw [if_neg c1]
      by_cases c2 : it g e 0 = 1
      · rw [if_pos c2, if_pos (.inr (.inl c2))]
      · rw [if_neg c2]
        by_cases c3 : it g e 0 = 4
        · rw [if_pos c3, if_pos (.inr (.inr c3))]
        · rw [if_neg c3, if_neg (by omega)]
  rw [ea]
  refine ni_if C h.1.1 (by rw [eu_X28_row_33]; unfold du_X28_row_33; rw [F 0 (by omega) (by omega), Option.bind_some]) (by rw [eu_X28_row_33]; unfold du_X28_row_33; rw [F 0 (by omega) (by omega), Option.bind_some]) Iff.rfl (fun q hq => hq.end) fun c0 => ?_
  dsimp only
  by_cases cz : it g e 0 = 0
  · rw [if_pos ((L_cmp_0 _ _).mpr cz), if_pos cz]
    refine jk_end (jS_end ⟨rfl, h, ⟨fun x x0 x1 => ?_, ?_⟩, hz⟩)
    · rw [rwI_s e0, if_neg (fun q => q.1 cz)]; exact hw.1 x x0 x1
    · rw [rwI_s e0, if_neg (fun q => q.1 cz)]; exact hw.2
  rw [if_neg (fun q => cz ((L_cmp_0 _ _).mp q)), if_neg cz]
  -- which it is: y0
  have go : ∀ y0 : Int, (y0 = if it g e 0 = 4 then 1 else 0) → jE (u_X28_row_64 u R e y0) (ckR (cOK fun t => iH s t R B g n ∧ iW t R g (e + 1) ∧ cIz t (R + 1)) (iBD s R) [(it g e 1 + it g e 4 ≤ n ∧ (it g e 4 = 0 ∨ 52 ≤ it g e 1), 12, jt' g e 1), (pP2 (it g e 7) ∧ if it g e 0 = 4 then it g e 1 % 4 = 0 else it g e 1 % it g e 7 = it g e 2 % it g e 7, 13, jt' g e 7), (¬ srI g e = -1 ∧ rwI g (srI g e) e = -1, 14, jt' g e 6),
   (if it g e 0 = 4 then it g e 2 = 0 else it g e 2 < 131072, 15, jt' g e 2), (it g e 3 = it g e 2, 16, jt' g e 3), (it g e 0 = 4 ∨ it g e 4 ≤ 4096, 17, jt' g e 4), (if it g e 0 = 4 then it g e 5 = 0 else it g e 4 ≤ it g e 5 ∧ it g e 5 ≤ it g e 4 + (if srI g e = 2 then 32768 else 0), 18, jt' g e 5),
   (it g e 4 = 0 ∨ ¬ mt (it g e 1) (it g e 4) (JT g) (32 * JE g) ∧ ∀ k, 0 ≤ k → k < e → ¬ it g k 0 = 0 → ¬ it g k 4 = 0 → ¬ mt (it g e 1) (it g e 4) (it g k 1) (it g k 4), 19, jt' g e 1)]) := by
    intro y0 hy
    have yz : y0 = 0 ↔ ¬ it g e 0 = 4 := by
      by_cases c : it g e 0 = 4
      · rw [if_pos c] at hy; omega
      · rw [if_neg c] at hy; omega
    rw [eu_X28_row_64]; unfold du_X28_row_64
    rw [T 1 (by omega) (by omega), Option.bind_some, T 4 (by omega) (by omega), Option.bind_some, h.1.2.2, W64_in (by omega) (by omega), Option.bind_some, Option.bind_some]
    have e113 : u_X28_row_113 u R e y0 R = u_X28_row_118 u R e y0 1 R := by rw [eu_X28_row_113]; rfl
    have e117 : u_X28_row_117 u R e y0 R = u_X28_row_118 u R e y0 0 R := by rw [eu_X28_row_117]; rfl
    have eb : (if 0 < L_cmp (it g e 1 + it g e 4) n then u_X28_row_117 u R e y0 R else if L_cmp (it g e 4) 0 = 0 then u_X28_row_113 u R e y0 R else if L_cmp (it g e 1) 52 < 0 then u_X28_row_117 u R e y0 R else u_X28_row_113 u R e y0 R) = if it g e 1 + it g e 4 ≤ n ∧ (it g e 4 = 0 ∨ 52 ≤ it g e 1) then u_X28_row_118 u R e y0 1 R else u_X28_row_118 u R e y0 0 R := by
      rw [e113, e117]
      simp only [L_cmp_0, L_cmp_lt, L_cmp_gt]
      by_cases c1 : n < it g e 1 + it g e 4
      · rw [if_pos c1, if_neg (by omega)]
      · rw [if_neg c1]
        by_cases c2 : it g e 4 = 0
        · rw [if_pos c2, if_pos (by omega)]
        · rw [if_neg c2]
          by_cases c3 : it g e 1 < 52
          · rw [if_pos c3, if_neg (by omega)]
          · rw [if_neg c3, if_pos (by omega)]
    rw [eb]
    refine ni_if C h.1.1 (by rw [eu_X28_row_118]; unfold du_X28_row_118; rw [F 1 (by omega) (by omega), Option.bind_some]) (by rw [eu_X28_row_118]; unfold du_X28_row_118; rw [F 1 (by omega) (by omega), Option.bind_some]) Iff.rfl (fun q hq => hq.end) fun c12 => ?_
    dsimp only
    rw [T 7 (by omega) (by omega), Option.bind_some, e_X22_in, Option.bind_some]
    have e220 : u_X28_row_220 u R e y0 R = u_X28_row_225 u R e y0 1 R := by rw [eu_X28_row_220]; rfl
    have e224 : u_X28_row_224 u R e y0 R = u_X28_row_225 u R e y0 0 R := by rw [eu_X28_row_224]; rfl
    have e166 : u_X28_row_166 u R e y0 (it g e 7) = u_X28_row_225 u R e y0 0 R := by
      rw [eu_X28_row_166]; unfold du_X28_row_166
      rw [eu_X28_row_167]; unfold du_X28_row_167
      rw [if_pos rfl, e224]
    have ec : (if (if ¬ it g e 7 < 1 ∧ ¬ 4096 < it g e 7 then (1 : Int) else 0) = 0 then u_X28_row_166 u R e y0 (it g e 7) else if L_cmp (L_and (it g e 7) (W64 (it g e 7 - 1))) 0 = 0 then u_X28_row_167 u R e y0 (it g e 7) 1 else u_X28_row_166 u R e y0 (it g e 7)) = if p2B (it g e 7) = true ∧ (if it g e 0 = 4 then it g e 1 % 4 = 0 else it g e 1 % it g e 7 = it g e 2 % it g e 7) then u_X28_row_225 u R e y0 1 R else u_X28_row_225 u R e y0 0 R := by
      rw [jz, e166]
      have hp := pw2_al (v := it g e 7) v7.1
      simp only [L_cmp_0]
      by_cases c1 : ¬ it g e 7 < 1 ∧ ¬ 4096 < it g e 7
      · rw [if_pos c1]
        by_cases c2 : L_and (it g e 7) (W64 (it g e 7 - 1)) = 0
        · have c3 := hp.mp ⟨c1, c2⟩
          have := c3.lo
          rw [if_pos c2, eu_X28_row_167]; unfold du_X28_row_167
          rw [if_neg (by decide), T 1 (by omega) (by omega), Option.bind_some, jdv_in (by omega), Option.bind_some, T 2 (by omega) (by omega), Option.bind_some, jdv_in (by omega), Option.bind_some, Option.bind_some, jdv_in (by decide), Option.bind_some, L_rem_n (x := it g e 1) (y := it g e 7) (by omega) (by omega) (by omega) (by omega), L_rem_n (x := it g e 2) (y := it g e 7) (by omega) (by omega) (by omega) (by omega), L_rem_n (x := it g e 1) (y := 4) (by omega) (by omega) (by omega) (by omega), e220, e224]
          simp only [L_cmp_0]
          by_cases c4 : it g e 0 = 4
          · rw [if_neg (fun q => yz.mp q c4)]; simp only [if_pos c4]
            by_cases c5 : it g e 1 % 4 = 0
            · rw [if_pos c5, if_pos ⟨p2B_i.mpr c3, c5⟩]
            · rw [if_neg c5, if_neg (fun q => c5 q.2)]
          · rw [if_pos (yz.mpr c4)]; simp only [if_neg c4]
            by_cases c5 : it g e 1 % it g e 7 = it g e 2 % it g e 7
            · rw [if_pos c5, if_pos ⟨p2B_i.mpr c3, c5⟩]
            · rw [if_neg c5, if_neg (fun q => c5 q.2)]
        · rw [if_neg c2, if_neg (fun q => c2 (hp.mpr (p2B_i.mp q.1)).2)]
      · rw [if_neg c1, if_neg (fun q => c1 (hp.mpr (p2B_i.mp q.1)).1)]
    rw [ec]
    refine ni_if C h.1.1 (by rw [eu_X28_row_225]; unfold du_X28_row_225; rw [F 7 (by omega) (by omega), Option.bind_some]) (by rw [eu_X28_row_225]; unfold du_X28_row_225; rw [F 7 (by omega) (by omega), Option.bind_some]) (by rw [p2B_i]) (fun q hq => hq.end) fun c13 => ?_
    dsimp only
    rw [T 6 (by omega) (by omega), Option.bind_some, sg_c, Option.bind_some, Option.bind_some]
    -- the part, and whether it is new
    generalize hG : (if it g e 6 = 5 then (0 : Int) else if it g e 6 = 4 then 1 else if it g e 6 = 6 then 2 else -1) = G
    have hG' : ¬ it g e 0 = 4 → srI g e = G := fun c => by unfold srI; rw [if_neg c]; exact hG
    have hGl : -1 ≤ G ∧ G ≤ 2 := by rw [← hG]; repeat' split; all_goals omega
    have e282 : u_X28_row_282 u R e y0 G R = u_X28_row_307 u R e y0 G 0 R := by rw [eu_X28_row_282]; rfl
    have e306 : u_X28_row_306 u R e y0 G R = u_X28_row_307 u R e y0 G 0 R := by rw [eu_X28_row_306]; rfl
    have ed : (if y0 = 0 then if G < 0 then u_X28_row_306 u R e y0 G R else (jlt u 1000 (R + 11) 3 G).bind fun v5 => if v5 = -1 then u_X28_row_307 u R e y0 G 1 R else u_X28_row_306 u R e y0 G R else if L_cmp (it g e 6) 4 = 0 then if jf u 32 R 7 = -1 then u_X28_row_307 u R e y0 G 1 R else u_X28_row_282 u R e y0 G R else u_X28_row_282 u R e y0 G R) = if ¬ srI g e = -1 ∧ rwI g (srI g e) e = -1 then u_X28_row_307 u R e y0 G 1 R else u_X28_row_307 u R e y0 G 0 R := by
      rw [e282, e306, hw.2]
      simp only [L_cmp_0]
      by_cases c4 : it g e 0 = 4
      · rw [if_neg (fun q => yz.mp q c4)]
        have hs : srI g e = if it g e 6 = 4 then 3 else -1 := by unfold srI; rw [if_pos c4]
        by_cases c6 : it g e 6 = 4
        · rw [if_pos c6] at hs
          rw [if_pos c6, hs]
          by_cases c7 : rwI g 3 e = -1
          · rw [if_pos c7, if_pos ⟨by decide, c7⟩]
          · rw [if_neg c7, if_neg (fun q => c7 q.2)]
        · rw [if_neg c6] at hs
          rw [if_neg c6, hs, if_neg (fun q => q.1 rfl)]
      · rw [if_pos (yz.mpr c4), hG' c4]
        by_cases c6 : G < 0
        · rw [if_pos c6, if_neg (fun q => q.1 (by omega))]
        · rw [if_neg c6, jlt_in (by omega) (by omega), Option.bind_some, hw.1 G (by omega) (by omega)]
          by_cases c7 : rwI g G e = -1
          · rw [if_pos c7, if_pos ⟨by omega, c7⟩]
          · rw [if_neg c7, if_neg (fun q => c7 q.2)]
    rw [ed]
    refine ni_if C h.1.1 (by rw [eu_X28_row_307]; unfold du_X28_row_307; rw [F 6 (by omega) (by omega), Option.bind_some]) (by rw [eu_X28_row_307]; unfold du_X28_row_307; rw [F 6 (by omega) (by omega), Option.bind_some]) Iff.rfl (fun q hq => hq.end) fun c14 => ?_
    dsimp only
    rw [T 2 (by omega) (by omega), Option.bind_some, Option.bind_some]
    have ee : (if y0 = 0 then if L_cmp (it g e 2) 131072 < 0 then u_X28_row_362 u R e y0 G 1 R else u_X28_row_362 u R e y0 G 0 R else if L_cmp (it g e 2) 0 = 0 then u_X28_row_362 u R e y0 G 1 R else u_X28_row_362 u R e y0 G 0 R) = if (if it g e 0 = 4 then it g e 2 = 0 else it g e 2 < 131072) then u_X28_row_362 u R e y0 G 1 R else u_X28_row_362 u R e y0 G 0 R := by
      simp only [L_cmp_0, L_cmp_lt]
      by_cases c4 : it g e 0 = 4
      · rw [if_neg (fun q => yz.mp q c4)]; simp only [if_pos c4]
      · rw [if_pos (yz.mpr c4)]; simp only [if_neg c4]
    rw [ee]
    refine ni_if C h.1.1 (by rw [eu_X28_row_362]; unfold du_X28_row_362; rw [F 2 (by omega) (by omega), Option.bind_some]) (by rw [eu_X28_row_362]; unfold du_X28_row_362; rw [F 2 (by omega) (by omega), Option.bind_some]) Iff.rfl (fun q hq => hq.end) fun c15 => ?_
    dsimp only
    rw [T 3 (by omega) (by omega), Option.bind_some, T 2 (by omega) (by omega), Option.bind_some]
    refine ni_if C h.1.1 (by rw [eu_X28_row_395]; unfold du_X28_row_395; rw [F 3 (by omega) (by omega), Option.bind_some]) (by rw [eu_X28_row_395]; unfold du_X28_row_395; rw [F 3 (by omega) (by omega), Option.bind_some]) (L_cmp_0 _ _) (fun q hq => hq.end) fun c16 => ?_
    dsimp only
    rw [T 4 (by omega) (by omega), Option.bind_some]
    have e425 : u_X28_row_425 u R e y0 G R = u_X28_row_430 u R e y0 G 1 R := by rw [eu_X28_row_425]; rfl
    have ef : (if y0 = 0 then if 0 < L_cmp (it g e 4) 4096 then u_X28_row_430 u R e y0 G 0 R else u_X28_row_425 u R e y0 G R else u_X28_row_425 u R e y0 G R) = if it g e 0 = 4 ∨ it g e 4 ≤ 4096 then u_X28_row_430 u R e y0 G 1 R else u_X28_row_430 u R e y0 G 0 R := by
      rw [e425]
      simp only [L_cmp_gt]
      by_cases c4 : it g e 0 = 4
      · rw [if_neg (fun q => yz.mp q c4), if_pos (.inl c4)]
      · rw [if_pos (yz.mpr c4)]
        by_cases c5 : 4096 < it g e 4
        · rw [if_pos c5, if_neg (by omega)]
        · rw [if_neg c5, if_pos (by omega)]
    rw [ef]
    refine ni_if C h.1.1 (by rw [eu_X28_row_430]; unfold du_X28_row_430; rw [F 4 (by omega) (by omega), Option.bind_some]) (by rw [eu_X28_row_430]; unfold du_X28_row_430; rw [F 4 (by omega) (by omega), Option.bind_some]) Iff.rfl (fun q hq => hq.end) fun c17 => ?_
    dsimp only
    rw [T 5 (by omega) (by omega), Option.bind_some, T 4 (by omega) (by omega), Option.bind_some]
    simp only [jlet]
    rw [W64_in (by omega) (by omega), Option.bind_some]
    have eg : (if y0 = 0 then if G = 2 then u_X28_row_497 u R e y0 G 32768 0 (it g e 5 - it g e 4) R else u_X28_row_497 u R e y0 G 0 0 (it g e 5 - it g e 4) R else if L_cmp (it g e 5) 0 = 0 then u_X28_row_500 u R e y0 G 1 R else u_X28_row_500 u R e y0 G 0 R) = if (if it g e 0 = 4 then it g e 5 = 0 else it g e 4 ≤ it g e 5 ∧ it g e 5 ≤ it g e 4 + (if srI g e = 2 then 32768 else 0)) then u_X28_row_500 u R e y0 G 1 R else u_X28_row_500 u R e y0 G 0 R := by
      simp only [L_cmp_0, eu_X28_row_497, du_X28_row_497, e_X22_in, Option.bind_some]
      by_cases c4 : it g e 0 = 4
      · rw [if_neg (fun q => yz.mp q c4)]; simp only [if_pos c4]
      · rw [if_pos (yz.mpr c4), hG' c4]; simp only [if_neg c4]
        by_cases c5 : G = 2
        · rw [if_pos c5, if_pos c5]
          by_cases c6 : it g e 4 ≤ it g e 5 ∧ it g e 5 ≤ it g e 4 + 32768
          · rw [if_pos (by omega), if_pos c6]
          · rw [if_neg (by omega), if_neg c6]
        · rw [if_neg c5, if_neg c5]
          by_cases c6 : it g e 4 ≤ it g e 5 ∧ it g e 5 ≤ it g e 4 + 0
          · rw [if_pos (by omega), if_pos c6]
          · rw [if_neg (by omega), if_neg c6]
    rw [eg]
    refine ni_if C h.1.1 (by rw [eu_X28_row_500]; unfold du_X28_row_500; rw [F 5 (by omega) (by omega), Option.bind_some]) (by rw [eu_X28_row_500]; unfold du_X28_row_500; rw [F 5 (by omega) (by omega), Option.bind_some]) Iff.rfl (fun q hq => hq.end) fun c18 => ?_
    dsimp only
    rw [T 4 (by omega) (by omega), Option.bind_some]
    -- the end: the row is kept
    have fin : jE (u_X28_row_623 u R e y0 G) (cOK fun t => iH s t R B g n ∧ iW t R g (e + 1) ∧ cIz t (R + 1)) := by
      rw [eu_X28_row_623]; unfold du_X28_row_623
      by_cases c4 : it g e 0 = 4
      · have hs : srI g e = 3 := by
          unfold srI at c14 ⊢
          rw [if_pos c4] at c14 ⊢
          by_cases c6 : it g e 6 = 4
          · rw [if_pos c6]
          · rw [if_neg c6] at c14; exact absurd rfl c14.1
        rw [if_neg (fun q => yz.mp q c4)]
        refine jS_end ⟨rfl, ⟨h.1.jp rfl (by omega) (by omega), by (repeat (first | rw [jf_neg (by omega)] | rw [jf_pos (by omega)] | rw [ou_neg (by omega)] | rw [ou_pos (by omega)])); exact h.2.1, by (repeat (first | rw [jf_neg (by omega)] | rw [jf_pos (by omega)] | rw [ou_neg (by omega)] | rw [ou_pos (by omega)])); exact h.2.2⟩, ⟨fun x x0 x1 => ?_, ?_⟩, fun x x0 x1 => by (repeat (first | rw [jf_neg (by omega)] | rw [jf_pos (by omega)] | rw [ou_neg (by omega)] | rw [ou_pos (by omega)])); exact hz x x0 x1⟩
        · rw [rwI_s e0, if_neg (fun q => by omega)]; (repeat (first | rw [jf_neg (by omega)] | rw [jf_pos (by omega)] | rw [ou_neg (by omega)] | rw [ou_pos (by omega)])); exact hw.1 x x0 x1
        · rw [rwI_s e0, if_pos ⟨cz, hs⟩]; exact jf_pos ⟨rfl, rfl, rfl⟩
      · have hs := hG' c4
        rw [if_pos (yz.mpr c4), jst_in (by omega) (by omega), Option.bind_some]
        refine jS_end ⟨rfl, ⟨⟨h.1.1.jp rfl (by omega) (by omega), by (repeat (first | rw [jf_neg (by omega)] | rw [jf_pos (by omega)] | rw [ou_neg (by omega)] | rw [ou_pos (by omega)])); exact h.1.2.1, by (repeat (first | rw [jf_neg (by omega)] | rw [jf_pos (by omega)] | rw [ou_neg (by omega)] | rw [ou_pos (by omega)])); exact h.1.2.2⟩, by (repeat (first | rw [jf_neg (by omega)] | rw [jf_pos (by omega)] | rw [ou_neg (by omega)] | rw [ou_pos (by omega)])); exact h.2.1, by (repeat (first | rw [jf_neg (by omega)] | rw [jf_pos (by omega)] | rw [ou_neg (by omega)] | rw [ou_pos (by omega)])); exact h.2.2⟩, ⟨fun x x0 x1 => ?_, ?_⟩, fun x x0 x1 => by (repeat (first | rw [jf_neg (by omega)] | rw [jf_pos (by omega)] | rw [ou_neg (by omega)] | rw [ou_pos (by omega)])); exact hz x x0 x1⟩
        · by_cases cx : x = G
          · rw [rwI_s e0, if_pos ⟨cz, hs.trans cx.symm⟩, cx]; exact jf_pos ⟨rfl, rfl, rfl⟩
          · rw [rwI_s e0, if_neg (fun q => cx (q.2.symm.trans hs))]; (repeat (first | rw [jf_neg (by omega)] | rw [jf_pos (by omega)] | rw [ou_neg (by omega)] | rw [ou_pos (by omega)])); exact hw.1 x x0 x1
        · rw [rwI_s e0, if_neg (fun q => by have := q.2; omega)]; (repeat (first | rw [jf_neg (by omega)] | rw [jf_pos (by omega)] | rw [ou_neg (by omega)] | rw [ou_pos (by omega)])); exact hw.2
    by_cases c4z : 0 < it g e 4
    rotate_left
    · rw [if_neg (fun q => c4z ((L_cmp_gt _ _).mp q))]
      exact jk_ok (.inl (by omega)) (jk_end fin)
    rw [if_pos ((L_cmp_gt _ _).mpr c4z), h.2.1, h.2.2, W32_in (z := 32 * JE g) (by omega) (by omega), i_over C h hd e0 e1 c12.1 (by omega) (by omega) (by omega) (by omega), Option.bind_some]
    -- areas that meet
    have keep : ∀ b : Int, (b = 0 ∨ b = 1) → (b = 1 ↔ (it g e 4 = 0 ∨ ¬ mt (it g e 1) (it g e 4) (JT g) (32 * JE g) ∧ ∀ k, 0 ≤ k → k < e → ¬ it g k 0 = 0 → ¬ it g k 4 = 0 → ¬ mt (it g e 1) (it g e 4) (it g k 1) (it g k 4))) → jE (u_X28_row_609 u R e y0 G b) (ckR (cOK fun t => iH s t R B g n ∧ iW t R g (e + 1) ∧ cIz t (R + 1)) (iBD s R) [(it g e 4 = 0 ∨ ¬ mt (it g e 1) (it g e 4) (JT g) (32 * JE g) ∧ ∀ k, 0 ≤ k → k < e → ¬ it g k 0 = 0 → ¬ it g k 4 = 0 → ¬ mt (it g e 1) (it g e 4) (it g k 1) (it g k 4), 19, jt' g e 1)]) := fun b hb hb2 => by
      rw [eu_X28_row_609]; unfold du_X28_row_609
      rw [F 1 (by omega) (by omega), Option.bind_some]
      refine ni_x C h.1.1 hb hb2 (fun q hq => hq.end) fun _ => ?_
      dsimp only
      exact jk_end fin
    -- an earlier row is within the file
    have old : ∀ k, 0 ≤ k → k < e → ¬ it g k 0 = 0 → it g k 1 + it g k 4 ≤ n := fun k k0 k1 kz => by
      have := hR k k0 k1
      unfold JRow at this
      rw [if_neg kz] at this
      simp only [Gd_cons] at this
      exact this.2.1.1
    have step : ∀ (b k : Int), 0 ≤ k → k < e → (b = 0 ∨ b = 1) → b_X28_row_551 u R e y0 G b k = some (.inl (u, [R, e, y0, G, if b = 1 ∧ (it g k 0 = 0 ∨ ¬ (0 < it g k 4 ∧ it g e 1 < it g k 1 + it g k 4 ∧ it g k 1 < it g e 1 + it g e 4)) then 1 else 0, k + 1])) := fun b k k0 k1 hb => by
      unfold b_X28_row_551
      have e601 : ∀ v, u_X28_row_601 u R e y0 G k v = some (.inl (u, [R, e, y0, G, v, k + 1])) := fun v => by
        rw [eu_X28_row_601]; unfold du_X28_row_601
        rw [W32_in (by omega) (by omega)]
      have e596 : u_X28_row_596 u R e y0 G k = u_X28_row_601 u R e y0 G k 1 := by rw [eu_X28_row_596]; rfl
      have e600 : u_X28_row_600 u R e y0 G k = u_X28_row_601 u R e y0 G k 0 := by rw [eu_X28_row_600]; rfl
      have w1 := it_lo C.1.by hd hn k0 (show k < JE g by omega) (k := 1) (by omega) (by omega)
      have w4 := it_lo C.1.by hd hn k0 (show k < JE g by omega) (k := 4) (by omega) (by omega)
      rw [if_pos k1, e596, e600, e601, e601]
      rcases hb with hb | hb
      · rw [if_pos hb, if_neg (by omega)]
      · rw [if_neg (by omega), i_num C h hd k0 (by omega) (by omega) (by omega), Option.bind_some]
        simp only [L_cmp_0]
        by_cases c1 : it g k 0 = 0
        · rw [if_pos c1, if_pos ⟨hb, .inl c1⟩]
        · have ho := old k k0 k1 c1
          rw [if_neg c1, i_val C h hd k0 (by omega) (by omega) (by omega), Option.bind_some, i_val C h hd k0 (by omega) (by omega) (by omega), Option.bind_some, W32_in (z := it g k 1) (by omega) (by omega), W32_in (z := it g k 4) (by omega) (by omega), i_over C h hd e0 e1 c12.1 (by omega) (by omega) (by omega) (by omega), Option.bind_some, jz]
          by_cases c2 : 0 < it g k 4 ∧ it g e 1 < it g k 1 + it g k 4 ∧ it g k 1 < it g e 1 + it g e 4
          · rw [if_pos c2, if_neg (fun q => q.2.elim c1 (fun z => z ⟨c2.1, c2.2⟩))]
          · rw [if_neg c2, if_pos ⟨hb, .inr fun z => c2 ⟨z.1, z.2⟩⟩]
    have loop : ∀ b0 : Int, (b0 = 0 ∨ b0 = 1) → (b0 = 1 ↔ ¬ mt (it g e 1) (it g e 4) (JT g) (32 * JE g)) → jE (u_X28_row_546 u R e y0 G b0) (ckR (cOK fun t => iH s t R B g n ∧ iW t R g (e + 1) ∧ cIz t (R + 1)) (iBD s R) [(it g e 4 = 0 ∨ ¬ mt (it g e 1) (it g e 4) (JT g) (32 * JE g) ∧ ∀ k, 0 ≤ k → k < e → ¬ it g k 0 = 0 → ¬ it g k 4 = 0 → ¬ mt (it g e 1) (it g e 4) (it g k 1) (it g k 4), 19, jt' g e 1)]) := fun b0 hb0 hb1 => by
      rw [eu_X28_row_546]; unfold du_X28_row_546
      rw [eu_X28_row_551]; unfold du_X28_row_551
      refine jS_for1 (fun k b w => w = u ∧ (b = 0 ∨ b = 1) ∧ (b = 1 ↔ ¬ mt (it g e 1) (it g e 4) (JT g) (32 * JE g) ∧ ∀ j, 0 ≤ j → j < k → ¬ it g j 0 = 0 → ¬ it g j 4 = 0 → ¬ mt (it g e 1) (it g e 4) (it g j 1) (it g j 4))) (fun k b => [R, e, y0, G, b, k]) 0 e e0 ⟨rfl, hb0, by rw [hb1]; exact ⟨fun z => ⟨z, fun j j0 j1 => by omega⟩, fun z => z.1⟩⟩ (fun k b w k0 k1 ⟨w1, w2, w3⟩ => ?_) (fun b w ⟨w1, w2, w3⟩ => ?_)
      · subst w1
        show jE (b_X28_row_551 w R e y0 G b k) _
        rw [step b k k0 k1 w2]
        have w4 := it_lo C.1.by hd hn k0 (show k < JE g by omega) (k := 4) (by omega) (by omega)
        refine jS_end ⟨_, rfl, rfl, by split <;> omega, ?_⟩
        by_cases c1 : b = 1 ∧ (it g k 0 = 0 ∨ ¬ (0 < it g k 4 ∧ it g e 1 < it g k 1 + it g k 4 ∧ it g k 1 < it g e 1 + it g e 4))
        · rw [if_pos c1]
          obtain ⟨m1, m2⟩ := w3.mp c1.1
          refine ⟨fun _ => ⟨m1, fun j j0 j1 j2 j3 => ?_⟩, fun _ => rfl⟩
          by_cases cj : j = k
          · subst cj
            exact c1.2.elim (fun z => absurd z j2) fun z q => z ⟨by omega, q.1, q.2⟩
          · exact m2 j j0 (by omega) j2 j3
        · rw [if_neg c1]
          refine ⟨fun z => absurd z (by decide), fun ⟨m1, m2⟩ => absurd ⟨w3.mpr ⟨m1, fun j j0 j1 => m2 j j0 (by omega)⟩, ?_⟩ c1⟩
          by_cases c2 : it g k 0 = 0
          · exact .inl c2
          · exact .inr fun z => m2 k k0 (by omega) c2 (by omega) z.2
      · subst w1
        show jE (b_X28_row_551 w R e y0 G b e) _
        unfold b_X28_row_551
        rw [if_neg (by omega)]
        refine jS_inr (keep b w2 ?_)
        rw [w3]
        exact ⟨.inr, fun z => z.resolve_left (by omega)⟩
    rw [jz]
    by_cases cm : mt (it g e 1) (it g e 4) (JT g) (32 * JE g)
    · rw [if_pos (show 0 < 32 * JE g ∧ it g e 1 < JT g + 32 * JE g ∧ JT g < it g e 1 + it g e 4 from ⟨by omega, cm.1, cm.2⟩)]
      exact loop 0 (.inl rfl) ⟨fun z => absurd z (by decide), fun z => absurd cm z⟩
    · rw [if_neg (show ¬ (0 < 32 * JE g ∧ it g e 1 < JT g + 32 * JE g ∧ JT g < it g e 1 + it g e 4) from fun z => cm ⟨z.2.1, z.2.2⟩)]
      exact loop 1 (.inr rfl) ⟨fun _ => cm, fun _ => rfl⟩
  by_cases c4 : it g e 0 = 4
  · rw [if_pos ((L_cmp_0 _ _).mpr c4)]; exact go 1 (by rw [if_pos c4])
  · rw [if_neg (fun q => c4 ((L_cmp_0 _ _).mp q))]; exact go 0 (by rw [if_neg c4])
end jIread2
