/-! the twin reads a file of an image: a row -/
section jSread2
variable {s t u : jS} {X n p f a b x y e k v : Int} {g g' : Int → Int} {L : List (Prop × Int × Int)} {c : Prop}
theorem sW.jp {v : Int} (h : sW u X g e) (hk : ¬ (k = 0 ∧ a = X + 10)) (hc : ¬ b = 1000) : sW (jp u b a k v) X g e := fun x x0 x1 => by rw [jf_neg (by omega)]; exact h x x0 x1
theorem s_sort (C : sC s X g n) (h : sH s u X g) (hd : Jd g n) (e0 : 0 ≤ e) (e1 : e < JE g) : m_X42_sortOf u X e = some (srI g e) := by
  rw [em_X42_sortOf]; unfold dm_X42_sortOf srI
  rw [h.nu C hd e0 e1 (by omega) (by omega), Option.bind_some, h.nu C hd e0 e1 (by omega) (by omega), Option.bind_some]
  simp only [L_cmp_0]
  by_cases c4 : it g e 0 = 4
  · rw [if_pos c4, if_pos c4]
    by_cases c : it g e 6 = 4
    · rw [if_pos c, if_pos c]
    · rw [if_neg c, if_neg c]
  · rw [if_neg c4, if_neg c4]
    by_cases c5 : it g e 6 = 5
    · rw [if_pos c5, if_pos c5]
    rw [if_neg c5, if_neg c5]
    by_cases c : it g e 6 = 4
    · rw [if_pos c, if_pos c]
    rw [if_neg c, if_neg c]
    by_cases c6 : it g e 6 = 6
    · rw [if_pos c6, if_pos c6]
    · rw [if_neg c6, if_neg c6]
theorem srI_lo : -1 ≤ srI g e ∧ srI g e ≤ 3 := by
  unfold srI
  repeat' split
  all_goals omega
theorem srI_3 : srI g e = 3 → it g e 0 = 4 := fun h => by
  unfold srI at h
  by_cases c : it g e 0 = 4
  · exact c
  · rw [if_neg c] at h
    repeat' split at h
    all_goals omega
theorem s_row (C : sC s X g n) (h : sH s u X g) (hw : sW u X g e) (hd : Jd g n) (e0 : 0 ≤ e) (e1 : e < JE g) (hR : ∀ k, 0 ≤ k → k < e → Gd (JRow g n k)) : jE (m_X42_rowFault u X e) (ckR (tOK fun t => sH s t X g ∧ sW t X g (e + 1)) (sBD s X) (JRow g n e)) := by
  have hn := C.n8
  have T : ∀ k, 0 ≤ k → k < 8 → m_X42_number u X e k = some (it g e k) := fun k k0 k1 => h.nu C hd e0 e1 k0 k1
  have V : ∀ k, 0 ≤ k → k < 8 → 0 ≤ it g e k ∧ it g e k < 4294967296 := fun k k0 k1 => C.lo hd e0 e1 k0 k1
  have B : ∀ {f k}, 0 ≤ k → k < 8 → ¬ f = 0 → jE ((m_X42_spot u X e k).bind fun v => (m_X42_fault u X f v).bind fun q => some (q.1, q.2)) (sBD s X f (jt' g e k)) := fun k0 k1 hf => by
    rw [h.sp C hd e0 e1 k0 k1, Option.bind_some]
    exact s_fault h.1 hf
  have v1 := V 1 (by omega) (by omega)
  have v4 := V 4 (by omega) (by omega)
  have v5 := V 5 (by omega) (by omega)
  have v7 := V 7 (by omega) (by omega)
  have v2 := V 2 (by omega) (by omega)
  have hd' := hd
  obtain ⟨d1, d2, d3, d4, d5, d6⟩ := hd'
  unfold JRow
  rw [em_X42_rowFault]; unfold dm_X42_rowFault
  rw [T 0 (by omega) (by omega), Option.bind_some]
  have ea : ∀ B : Option (jS × Int), (if L_cmp (it g e 0) 0 = 0 then u_X42_rowFault_40 u X e (it g e 0) else if L_cmp (it g e 0) 1 = 0 then u_X42_rowFault_40 u X e (it g e 0) else if L_cmp (it g e 0) 4 = 0 then u_X42_rowFault_40 u X e (it g e 0) else B) = if it g e 0 = 0 ∨ it g e 0 = 1 ∨ it g e 0 = 4 then u_X42_rowFault_40 u X e (it g e 0) else B := fun B => by
    simp only [L_cmp_0]
    by_cases c1 : it g e 0 = 0
    · rw [if_pos c1, if_pos (.inl c1)]
    · rw [if_neg c1]
      by_cases c2 : it g e 0 = 1
      · rw [if_pos c2, if_pos (.inr (.inl c2))]
      · rw [if_neg c2]
        by_cases c3 : it g e 0 = 4
        · rw [if_pos c3, if_pos (.inr (.inr c3))]
        · rw [if_neg c3, if_neg (by omega)]
  rw [ea]
  refine tk_if Iff.rfl (B (by omega) (by omega) (by omega)) fun c0 => ?_
  rw [eu_X42_rowFault_40]; unfold du_X42_rowFault_40
  by_cases cz : it g e 0 = 0
  · rw [if_pos ((L_cmp_0 _ _).mpr cz), if_pos cz]
    refine jk_end (jS_end ⟨rfl, h, fun x x0 x1 => ?_⟩)
    rw [rwI_s e0, if_neg (fun q => q.1 cz)]; exact hw x x0 x1
  rw [if_neg (fun q => cz ((L_cmp_0 _ _).mp q)), if_neg cz]
  have go : ∀ y0 : Int, (y0 = if it g e 0 = 4 then 1 else 0) → jE (u_X42_rowFault_61 u X e y0) (ckR (tOK fun t => sH s t X g ∧ sW t X g (e + 1)) (sBD s X) [(it g e 1 + it g e 4 ≤ n ∧ (it g e 4 = 0 ∨ 52 ≤ it g e 1), 12, jt' g e 1), (pP2 (it g e 7) ∧ if it g e 0 = 4 then it g e 1 % 4 = 0 else it g e 1 % it g e 7 = it g e 2 % it g e 7, 13, jt' g e 7), (¬ srI g e = -1 ∧ rwI g (srI g e) e = -1, 14, jt' g e 6),
   (if it g e 0 = 4 then it g e 2 = 0 else it g e 2 < 131072, 15, jt' g e 2), (it g e 3 = it g e 2, 16, jt' g e 3), (it g e 0 = 4 ∨ it g e 4 ≤ 4096, 17, jt' g e 4), (if it g e 0 = 4 then it g e 5 = 0 else it g e 4 ≤ it g e 5 ∧ it g e 5 ≤ it g e 4 + (if srI g e = 2 then 32768 else 0), 18, jt' g e 5),
   (it g e 4 = 0 ∨ ¬ mt (it g e 1) (it g e 4) (JT g) (32 * JE g) ∧ ∀ k, 0 ≤ k → k < e → ¬ it g k 0 = 0 → ¬ it g k 4 = 0 → ¬ mt (it g e 1) (it g e 4) (it g k 1) (it g k 4), 19, jt' g e 1)]) := by
    intro y0 hy
    have yz : y0 = 0 ↔ ¬ it g e 0 = 4 := by
      by_cases c : it g e 0 = 4
      · rw [if_pos c] at hy; omega
      · rw [if_neg c] at hy; omega
    rw [eu_X42_rowFault_61]; unfold du_X42_rowFault_61
    rw [T 1 (by omega) (by omega), Option.bind_some, T 2 (by omega) (by omega), Option.bind_some, T 4 (by omega) (by omega), Option.bind_some, T 5 (by omega) (by omega), Option.bind_some, T 7 (by omega) (by omega), Option.bind_some, (C.rd h.1).2.2.2.2, W64_in (by omega) (by omega)]
    have eb : ∀ A : Option (jS × Int), (if 0 < L_cmp (it g e 1 + it g e 4) n then u_X42_rowFault_134 u X e else if 0 < L_cmp (it g e 4) 0 then if L_cmp (it g e 1) 52 < 0 then u_X42_rowFault_134 u X e else A else A) = if it g e 1 + it g e 4 ≤ n ∧ (it g e 4 = 0 ∨ 52 ≤ it g e 1) then A else u_X42_rowFault_134 u X e := fun A => by
      simp only [L_cmp_lt, L_cmp_gt]
      by_cases c1 : n < it g e 1 + it g e 4
      · rw [if_pos c1, if_neg (by omega)]
      · rw [if_neg c1]
        by_cases c2 : 0 < it g e 4
        · rw [if_pos c2]
          by_cases c3 : it g e 1 < 52
          · rw [if_pos c3, if_neg (by omega)]
          · rw [if_neg c3, if_pos (by omega)]
        · rw [if_neg c2, if_pos (by omega)]
    rw [eb]
    refine tk_if Iff.rfl (by rw [eu_X42_rowFault_134]; unfold du_X42_rowFault_134; exact B (by omega) (by omega) (by omega)) fun c12 => ?_
    rw [eu_X42_rowFault_147]; unfold du_X42_rowFault_147
    rw [s_pow, Option.bind_some, jz]
    have ec : (if p2B (it g e 7) = true then if y0 = 0 then u_X42_rowFault_171 u X e y0 (it g e 1) (it g e 2) (it g e 4) (it g e 5) (it g e 7) else (jdv 4 (L_rem (it g e 1) 4)).bind fun v2 => if L_cmp v2 0 = 0 then u_X42_rowFault_171 u X e y0 (it g e 1) (it g e 2) (it g e 4) (it g e 5) (it g e 7) else u_X42_rowFault_190 u X e else u_X42_rowFault_190 u X e) = if p2B (it g e 7) = true ∧ (if it g e 0 = 4 then it g e 1 % 4 = 0 else it g e 1 % it g e 7 = it g e 2 % it g e 7) then u_X42_rowFault_204 u X e y0 (it g e 1) (it g e 2) (it g e 4) (it g e 5) else u_X42_rowFault_190 u X e := by
      by_cases cp : p2B (it g e 7) = true
      · have lo := (p2B_i.mp cp).lo
        rw [if_pos cp, eu_X42_rowFault_171]; unfold du_X42_rowFault_171
        by_cases c4 : it g e 0 = 4
        · have y1 : ¬ y0 = 0 := fun q => yz.mp q c4
          rw [if_neg y1, jdv_in (by decide), Option.bind_some, L_rem_n (by omega) (by omega) (by omega) (by omega), if_neg y1]; simp only [if_pos c4, L_cmp_0]
          by_cases c5 : it g e 1 % 4 = 0
          · rw [if_pos c5, if_pos ⟨cp, c5⟩]
          · rw [if_neg c5, if_neg (fun q => c5 q.2)]
        · have y1 := yz.mpr c4
          rw [if_pos y1, if_pos y1, jdv_in (by omega), Option.bind_some, jdv_in (by omega), Option.bind_some, L_rem_n (x := it g e 1) (by omega) (by omega) (by omega) (by omega), L_rem_n (x := it g e 2) (by omega) (by omega) (by omega) (by omega)]; simp only [if_neg c4, L_cmp_0]
          by_cases c5 : it g e 1 % it g e 7 = it g e 2 % it g e 7
          · rw [if_pos c5, if_pos ⟨cp, c5⟩]
          · rw [if_neg c5, if_neg (fun q => c5 q.2)]
      · rw [if_neg cp, if_neg (fun q => cp q.1)]
    rw [ec]
    refine tk_if (by rw [p2B_i]) (by rw [eu_X42_rowFault_190]; unfold du_X42_rowFault_190; exact B (by omega) (by omega) (by omega)) fun c13 => ?_
    have sl := srI_lo (g := g) (e := e)
    rw [eu_X42_rowFault_204]; unfold du_X42_rowFault_204
    rw [s_sort C h hd e0 e1, Option.bind_some]
    have e228 : ∀ (q : Prop) M, ¬ q → jE (u_X42_rowFault_228 u X e) (ckR (tOK fun t => sH s t X g ∧ sW t X g (e + 1)) (sBD s X) ((q, 14, jt' g e 6) :: M)) := fun q M hq => jk_no hq (by
      rw [eu_X42_rowFault_228]; unfold du_X42_rowFault_228
      exact B (by omega) (by omega) (by omega))
    by_cases cs : srI g e = -1
    · rw [if_pos cs]; exact e228 _ _ fun z => z.1 cs
    rw [if_neg cs, jlt_in (by omega) (by omega), Option.bind_some, hw _ (by omega) (by omega)]
    by_cases cr : rwI g (srI g e) e = -1
    rotate_left
    · rw [if_neg cr]; exact e228 _ _ fun z => cr z.2
    rw [if_pos cr]
    refine jk_ok ⟨cs, cr⟩ ?_
    have ed : ∀ A : Option (jS × Int), (if y0 = 0 then if L_cmp (it g e 2) 131072 < 0 then A else u_X42_rowFault_266 u X e else if L_cmp (it g e 2) 0 = 0 then A else u_X42_rowFault_266 u X e) = if (if it g e 0 = 4 then it g e 2 = 0 else it g e 2 < 131072) then A else u_X42_rowFault_266 u X e := fun A => by
      simp only [L_cmp_0, L_cmp_lt]
      by_cases c4 : it g e 0 = 4
      · rw [if_neg (fun q => yz.mp q c4)]; simp only [if_pos c4]
      · rw [if_pos (yz.mpr c4)]; simp only [if_neg c4]
    rw [ed]
    refine tk_if Iff.rfl (by rw [eu_X42_rowFault_266]; unfold du_X42_rowFault_266; exact B (by omega) (by omega) (by omega)) fun c15 => ?_
    rw [eu_X42_rowFault_279]; unfold du_X42_rowFault_279
    rw [T 3 (by omega) (by omega), Option.bind_some]
    refine tk_if (L_cmp_0 _ _) (B (by omega) (by omega) (by omega)) fun c16 => ?_
    have ef : ∀ A B' : Option (jS × Int), (if y0 = 0 then if 0 < L_cmp (it g e 4) 4096 then B' else A else A) = if it g e 0 = 4 ∨ it g e 4 ≤ 4096 then A else B' := fun A B' => by
      simp only [L_cmp_gt]
      by_cases c4 : it g e 0 = 4
      · rw [if_neg (fun q => yz.mp q c4), if_pos (.inl c4)]
      · rw [if_pos (yz.mpr c4)]
        by_cases c5 : 4096 < it g e 4
        · rw [if_pos c5, if_neg (by omega)]
        · rw [if_neg c5, if_pos (by omega)]
    rw [ef]
    refine tk_if Iff.rfl (B (by omega) (by omega) (by omega)) fun c17 => ?_
    rw [eu_X42_rowFault_331]; unfold du_X42_rowFault_331
    rw [W64_in (by omega) (by omega)]
    have eg : ∀ A : Option (jS × Int), (if y0 = 0 then if L_cmp (it g e 5) (it g e 4) < 0 then u_X42_rowFault_380 u X e else if 0 < L_cmp (it g e 5 - it g e 4) 32768 then u_X42_rowFault_380 u X e else if srI g e < 2 then if L_cmp (it g e 5) (it g e 4) = 0 then A else u_X42_rowFault_380 u X e else A else if L_cmp (it g e 5) 0 = 0 then A else u_X42_rowFault_380 u X e) = if (if it g e 0 = 4 then it g e 5 = 0 else it g e 4 ≤ it g e 5 ∧ it g e 5 ≤ it g e 4 + (if srI g e = 2 then 32768 else 0)) then A else u_X42_rowFault_380 u X e := fun A => by
      simp only [L_cmp_0, L_cmp_lt, L_cmp_gt]
      by_cases c4 : it g e 0 = 4
      · rw [if_neg (fun q => yz.mp q c4)]; simp only [if_pos c4]
      · have s3 : ¬ srI g e = 3 := fun z => c4 (srI_3 z)
        rw [if_pos (yz.mpr c4)]; simp only [if_neg c4]
        by_cases c5 : it g e 5 < it g e 4
        · rw [if_pos c5, if_neg (by omega)]
        rw [if_neg c5]
        by_cases c6 : 32768 < it g e 5 - it g e 4
        · rw [if_pos c6, if_neg (by split <;> omega)]
        rw [if_neg c6]
        by_cases c7 : srI g e < 2
        · rw [if_pos c7]
          have c8 : ¬ srI g e = 2 := by omega
          simp only [if_neg c8]
          by_cases c9 : it g e 5 = it g e 4
          · rw [if_pos c9, if_pos (by omega)]
          · rw [if_neg c9, if_neg (by omega)]
        · have c8 : srI g e = 2 := by omega
          rw [if_neg c7]; simp only [if_pos c8]
          rw [if_pos (by omega)]
    rw [eg]
    refine tk_if Iff.rfl (by rw [eu_X42_rowFault_380]; unfold du_X42_rowFault_380; exact B (by omega) (by omega) (by omega)) fun c18 => ?_
    rw [eu_X42_rowFault_393]; unfold du_X42_rowFault_393
    -- the end: the row is kept
    have fin : jE (u_X42_rowFault_546 u X e (srI g e)) (tOK fun t => sH s t X g ∧ sW t X g (e + 1)) := by
      rw [eu_X42_rowFault_546]; unfold du_X42_rowFault_546
      rw [jst_in (by omega) (by omega), Option.bind_some]
      refine jS_end ⟨rfl, ⟨h.1.jp (.inl ⟨rfl, rfl⟩), by (repeat (first | rw [jf_neg (by omega)] | rw [jf_pos (by omega)] | rw [ou_neg (by omega)] | rw [ou_pos (by omega)])); exact h.2.1, by (repeat (first | rw [jf_neg (by omega)] | rw [jf_pos (by omega)] | rw [ou_neg (by omega)] | rw [ou_pos (by omega)])); exact h.2.2⟩, fun x x0 x1 => ?_⟩
      rw [rwI_s e0]
      by_cases cx : x = srI g e
      · rw [if_pos ⟨cz, cx.symm⟩]; exact jf_pos ⟨rfl, rfl, cx⟩
      · rw [if_neg (fun q => cx q.2.symm)]; (repeat (first | rw [jf_neg (by omega)] | rw [jf_pos (by omega)] | rw [ou_neg (by omega)] | rw [ou_pos (by omega)])); exact hw x x0 x1
    have e527 : ∀ q : Prop, ¬ q → jE (u_X42_rowFault_527 u X e) (ckR (tOK fun t => sH s t X g ∧ sW t X g (e + 1)) (sBD s X) [(q, 19, jt' g e 1)]) := fun q hq => jk_no hq (by
      rw [eu_X42_rowFault_527]; unfold du_X42_rowFault_527
      exact B (by omega) (by omega) (by omega))
    have loop : (0 < it g e 4 → ¬ mt (it g e 1) (it g e 4) (JT g) (32 * JE g)) → jE (u_X42_rowFault_448 u X e (it g e 1) (it g e 4) (srI g e)) (ckR (tOK fun t => sH s t X g ∧ sW t X g (e + 1)) (sBD s X) [(it g e 4 = 0 ∨ ¬ mt (it g e 1) (it g e 4) (JT g) (32 * JE g) ∧ ∀ k, 0 ≤ k → k < e → ¬ it g k 0 = 0 → ¬ it g k 4 = 0 → ¬ mt (it g e 1) (it g e 4) (it g k 1) (it g k 4), 19, jt' g e 1)]) := fun hm => by
      rw [eu_X42_rowFault_448]; unfold du_X42_rowFault_448
      rw [eu_X42_rowFault_451]; unfold du_X42_rowFault_451
      have old : ∀ k, 0 ≤ k → k < e → ¬ it g k 0 = 0 → it g k 1 + it g k 4 ≤ n := fun k k0 k1 kz => by
        have := hR k k0 k1
        unfold JRow at this
        rw [if_neg kz] at this
        simp only [Gd_cons] at this
        exact this.2.1.1
      have e540 : ∀ k, 0 ≤ k → k < e → u_X42_rowFault_540 u X e (it g e 1) (it g e 4) (srI g e) k = some (.inl (u, [X, e, it g e 1, it g e 4, srI g e, k + 1])) := fun k k0 k1 => by
        rw [eu_X42_rowFault_540]; unfold du_X42_rowFault_540
        rw [W32_in (by omega) (by omega)]
      have step : ∀ k, 0 ≤ k → k < e → b_X42_rowFault_451 u X e (it g e 1) (it g e 4) (srI g e) k = if ¬ it g k 0 = 0 ∧ 0 < it g e 4 ∧ 0 < it g k 4 ∧ it g e 1 < it g k 1 + it g k 4 ∧ it g k 1 < it g e 1 + it g e 4 then jinr (u_X42_rowFault_527 u X e) else some (.inl (u, [X, e, it g e 1, it g e 4, srI g e, k + 1])) := fun k k0 k1 => by
        unfold b_X42_rowFault_451
        have w1 := C.lo hd k0 (show k < JE g by omega) (k := 1) (by omega) (by omega)
        have w4 := C.lo hd k0 (show k < JE g by omega) (k := 4) (by omega) (by omega)
        rw [if_pos k1, h.nu C hd k0 (by omega) (by omega) (by omega), Option.bind_some, h.nu C hd k0 (by omega) (by omega) (by omega), Option.bind_some, h.nu C hd k0 (by omega) (by omega) (by omega), Option.bind_some, e540 k k0 k1, Option.bind_some, W64_in (z := it g k 1 + it g k 4) (by omega) (by omega), W64_in (z := it g e 1 + it g e 4) (by omega) (by omega)]
        simp only [L_cmp_0, L_cmp_lt, L_cmp_gt]
        by_cases c1 : it g k 0 = 0
        · rw [if_pos c1, if_neg (fun q => q.1 c1)]
        rw [if_neg c1]
        by_cases c2 : 0 < it g e 4
        · rw [if_pos c2]
          by_cases c3 : 0 < it g k 4
          · rw [if_pos c3]
            by_cases c5 : it g e 1 < it g k 1 + it g k 4
            · rw [if_pos c5]
              by_cases c6 : it g k 1 < it g e 1 + it g e 4
              · rw [if_pos c6, if_pos ⟨c1, c2, c3, c5, c6⟩]
              · rw [if_neg c6, if_neg (fun q => c6 q.2.2.2.2)]
            · rw [if_neg c5, if_neg (fun q => c5 q.2.2.2.1)]
          · rw [if_neg c3, if_neg (fun q => c3 q.2.2.1)]
        · rw [if_neg c2, if_neg (fun q => c2 q.2.1)]
      rcases jseekW (R := jS × Int) (C := jc6 b_X42_rowFault_451) (s := u) (fun k => [X, e, it g e 1, it g e 4, srI g e, k]) (fun k => ¬ it g k 0 = 0 ∧ 0 < it g e 4 ∧ 0 < it g k 4 ∧ it g e 1 < it g k 1 + it g k 4 ∧ it g k 1 < it g e 1 + it g e 4) (fun k => u_X42_rowFault_527 u X e) (u_X42_rowFault_546 u X e (srI g e)) 0 e e0 (fun k k0 k1 hk => by
          show b_X42_rowFault_451 u X e _ _ _ k = _
          rw [step k k0 k1, if_neg hk]) (fun k k0 k1 hk => by
          show b_X42_rowFault_451 u X e _ _ _ k = _
          rw [step k k0 k1, if_pos hk]) (by
          show b_X42_rowFault_451 u X e _ _ _ e = _
          unfold b_X42_rowFault_451
          rw [if_neg (by omega)]) with ⟨k, k0, k1, k2, -, ek⟩ | ⟨k2, ek⟩
      · rw [ek]
        refine e527 _ fun z => ?_
        rcases z with z | z
        · omega
        · exact z.2 k k0 k1 k2.1 (by omega) ⟨k2.2.2.2.1, k2.2.2.2.2⟩
      · rw [ek]
        refine jk_ok ?_ (jk_end fin)
        by_cases c : it g e 4 = 0
        · exact .inl c
        · exact .inr ⟨hm (by omega), fun k k0 k1 kz k4 z => k2 k k0 k1 ⟨kz, by omega, by have := C.lo hd k0 (show k < JE g by omega) (k := 4) (by omega) (by omega); omega, z.1, z.2⟩⟩
    rw [h.2.1, h.2.2, W64_in (z := 32 * JE g) (by omega) (by omega), W64_in (z := JT g + 32 * JE g) (by omega) (by omega), W64_in (z := it g e 1 + it g e 4) (by omega) (by omega)]
    simp only [L_cmp_lt, L_cmp_gt]
    by_cases c2 : 0 < it g e 4
    · rw [if_pos c2]
      by_cases c3 : it g e 1 < JT g + 32 * JE g
      · rw [if_pos c3]
        by_cases c5 : JT g < it g e 1 + it g e 4
        · rw [if_pos c5]
          refine jk_no (fun z => ?_) (B (by omega) (by omega) (by omega))
          rcases z with z | z
          · omega
          · exact z.1 ⟨c3, c5⟩
        · rw [if_neg c5]; exact loop fun _ z => c5 z.2
      · rw [if_neg c3]; exact loop fun _ z => c3 z.1
    · rw [if_neg c2]; exact loop fun z => absurd z c2
  by_cases c4 : it g e 0 = 4
  · rw [if_pos ((L_cmp_0 _ _).mpr c4)]; exact go 1 (by rw [if_pos c4])
  · rw [if_neg (fun q => c4 ((L_cmp_0 _ _).mp q))]; exact go 0 (by rw [if_neg c4])
end jSread2
