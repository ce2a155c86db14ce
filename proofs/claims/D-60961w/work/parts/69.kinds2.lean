/-! of each kind when a word is of it: printed by gen_kinds.py -/
set_option maxRecDepth 100000
section jKinds3
theorem pReg_n {k e : Nat} {r : Int} (h : pSho k e = false) : pReg k e r = true ↔ 0 ≤ r ∧ r ≤ 31 ∧ (k < 48 ∨ k = 74 ∨ ¬ r = 0 ∧ ¬ (k = 56 ∧ r = 2)) := by
  unfold pReg
  rw [h, if_neg (by decide), decide_eq_true_iff]
theorem pReg_s {k e : Nat} {r : Int} (h : pSho k e = true) : pReg k e r = true ↔ 8 ≤ r ∧ r < 16 := by
  unfold pReg
  rw [if_pos h, decide_eq_true_iff]
theorem p4g_0 (p : jP4) : p4g p 0 = p.1 := rfl
theorem p4g_1 (p : jP4) : p4g p 1 = p.2.1 := rfl
theorem p4g_2 (p : jP4) : p4g p 2 = p.2.2.1 := rfl
theorem p4g_3 (p : jP4) : p4g p 3 = p.2.2.2 := rfl
theorem sxt_6 (v : Int) : sxt 6 v = if v < 32 then v else v - 64 := by
  unfold sxt
  rw [show (2 : Int) ^ (6 - 1) = 32 from by decide, show (2 : Int) ^ 6 = 64 from by decide]
theorem sxt_9 (v : Int) : sxt 9 v = if v < 256 then v else v - 512 := by
  unfold sxt
  rw [show (2 : Int) ^ (9 - 1) = 256 from by decide, show (2 : Int) ^ 9 = 512 from by decide]
theorem sxt_10 (v : Int) : sxt 10 v = if v < 512 then v else v - 1024 := by
  unfold sxt
  rw [show (2 : Int) ^ (10 - 1) = 512 from by decide, show (2 : Int) ^ 10 = 1024 from by decide]
theorem sxt_12 (v : Int) : sxt 12 v = if v < 2048 then v else v - 4096 := by
  unfold sxt
  rw [show (2 : Int) ^ (12 - 1) = 2048 from by decide, show (2 : Int) ^ 12 = 4096 from by decide]
theorem sxt_13 (v : Int) : sxt 13 v = if v < 4096 then v else v - 8192 := by
  unfold sxt
  rw [show (2 : Int) ^ (13 - 1) = 4096 from by decide, show (2 : Int) ^ 13 = 8192 from by decide]
theorem sxt_21 (v : Int) : sxt 21 v = if v < 1048576 then v else v - 2097152 := by
  unfold sxt
  rw [show (2 : Int) ^ (21 - 1) = 1048576 from by decide, show (2 : Int) ^ 21 = 2097152 from by decide]
theorem pAdv_u {k : Nat} (h : pSgn k = -1) (v : Int) : pAdv k v = v := by
  unfold pAdv
  rw [h, if_pos (by decide)]
theorem pAdv_s {k n : Nat} (h : pSgn k + 1 = n) (h0 : 1 ≤ n) (h1 : n ≤ 31) {v : Int} (hv : 0 ≤ v) (hv' : v < 2 ^ n) : pAdv k v = sxt n v := by
  unfold pAdv
  rw [if_neg (by omega), sxt_p h0 h1 hv hv' (by omega)]

theorem pTk_0 (w : Int) : (pTk 0 w = true ↔ pSl 0 7 w = 55) ∧ (pTk 0 w = true → pPt 0 w = (pSl 7 5 w, 0, 0, pSl 12 20 w)) := by
  have f7_5 := pSl_lo 7 5 w
  have f12_20 := pSl_lo 12 20 w
  simp only [show (2 : Int) ^ 1 = 2 from rfl, show (2 : Int) ^ 2 = 4 from rfl, show (2 : Int) ^ 3 = 8 from rfl, show (2 : Int) ^ 4 = 16 from rfl, show (2 : Int) ^ 5 = 32 from rfl, show (2 : Int) ^ 6 = 64 from rfl, show (2 : Int) ^ 7 = 128 from rfl, show (2 : Int) ^ 8 = 256 from rfl, show (2 : Int) ^ 10 = 1024 from rfl, show (2 : Int) ^ 12 = 4096 from rfl, show (2 : Int) ^ 20 = 1048576 from rfl] at f7_5 f12_20
  unfold pTk pPt
  rw [pRes_0]
  by_cases h : pSl 0 7 w = 55
  · rw [if_pos h]
    have ea : pAdv 0 (pSl 12 20 w) = pSl 12 20 w := pAdv_u (by decide +kernel) _
    have ej : pAdj 0 (pSl 7 5 w, 0, 0, pSl 12 20 w) = (pSl 7 5 w, 0, 0, pSl 12 20 w) := by
      unfold pAdj
      simp only [ea]
      rw [if_neg (by decide)]
    show (pGood 0 (pAdj 0 (pSl 7 5 w, 0, 0, pSl 12 20 w)) = true ↔ _) ∧ (pGood 0 (pAdj 0 (pSl 7 5 w, 0, 0, pSl 12 20 w)) = true → pAdj 0 (pSl 7 5 w, 0, 0, pSl 12 20 w) = _)
    rw [ej]
    refine ⟨?_, fun _ => rfl⟩
    unfold pGood
    rw [show pHas 0 0 = true from by decide +kernel, show pHas 0 1 = false from by decide +kernel, show pHas 0 2 = false from by decide +kernel, show pHas 0 3 = true from by decide +kernel]
    simp only [Bool.not_true, Bool.not_false, Bool.false_or, Bool.true_or, Bool.and_true, Bool.true_and, Bool.and_eq_true, pReg_n (show pSho 0 0 = false from by decide +kernel), pImm_0, p4g_0, p4g_1, p4g_2, p4g_3]
    try simp only [sxt_6, sxt_9, sxt_10, sxt_12, sxt_13, sxt_21]
    repeat' split
    all_goals (first | omega | (simp; omega) | (simp; done))
  · rw [if_neg h]
    refine ⟨⟨fun q => (nomatch q), fun q => absurd (by exact q) h⟩, fun q => (nomatch q)⟩
theorem pTk_1 (w : Int) : (pTk 1 w = true ↔ pSl 0 7 w = 23) ∧ (pTk 1 w = true → pPt 1 w = (pSl 7 5 w, 0, 0, pSl 12 20 w)) := by
  have f7_5 := pSl_lo 7 5 w
  have f12_20 := pSl_lo 12 20 w
  simp only [show (2 : Int) ^ 1 = 2 from rfl, show (2 : Int) ^ 2 = 4 from rfl, show (2 : Int) ^ 3 = 8 from rfl, show (2 : Int) ^ 4 = 16 from rfl, show (2 : Int) ^ 5 = 32 from rfl, show (2 : Int) ^ 6 = 64 from rfl, show (2 : Int) ^ 7 = 128 from rfl, show (2 : Int) ^ 8 = 256 from rfl, show (2 : Int) ^ 10 = 1024 from rfl, show (2 : Int) ^ 12 = 4096 from rfl, show (2 : Int) ^ 20 = 1048576 from rfl] at f7_5 f12_20
  unfold pTk pPt
  rw [pRes_1]
  by_cases h : pSl 0 7 w = 23
  · rw [if_pos h]
    have ea : pAdv 1 (pSl 12 20 w) = pSl 12 20 w := pAdv_u (by decide +kernel) _
    have ej : pAdj 1 (pSl 7 5 w, 0, 0, pSl 12 20 w) = (pSl 7 5 w, 0, 0, pSl 12 20 w) := by
      unfold pAdj
      simp only [ea]
      rw [if_neg (by decide)]
    show (pGood 1 (pAdj 1 (pSl 7 5 w, 0, 0, pSl 12 20 w)) = true ↔ _) ∧ (pGood 1 (pAdj 1 (pSl 7 5 w, 0, 0, pSl 12 20 w)) = true → pAdj 1 (pSl 7 5 w, 0, 0, pSl 12 20 w) = _)
    rw [ej]
    refine ⟨?_, fun _ => rfl⟩
    unfold pGood
    rw [show pHas 1 0 = true from by decide +kernel, show pHas 1 1 = false from by decide +kernel, show pHas 1 2 = false from by decide +kernel, show pHas 1 3 = true from by decide +kernel]
    simp only [Bool.not_true, Bool.not_false, Bool.false_or, Bool.true_or, Bool.and_true, Bool.true_and, Bool.and_eq_true, pReg_n (show pSho 1 0 = false from by decide +kernel), pImm_1, p4g_0, p4g_1, p4g_2, p4g_3]
    try simp only [sxt_6, sxt_9, sxt_10, sxt_12, sxt_13, sxt_21]
    repeat' split
    all_goals (first | omega | (simp; omega) | (simp; done))
  · rw [if_neg h]
    refine ⟨⟨fun q => (nomatch q), fun q => absurd (by exact q) h⟩, fun q => (nomatch q)⟩
theorem pTk_2 (w : Int) : (pTk 2 w = true ↔ pSl 0 7 w = 111) ∧ (pTk 2 w = true → pPt 2 w = (pSl 7 5 w, 0, 0, sxt 21 (pSl 12 8 w * 4096 + pSl 20 1 w * 2048 + pSl 21 10 w * 2 + pSl 31 1 w * 1048576))) := by
  have f7_5 := pSl_lo 7 5 w
  have f12_8 := pSl_lo 12 8 w
  have f20_1 := pSl_lo 20 1 w
  have f21_10 := pSl_lo 21 10 w
  have f31_1 := pSl_lo 31 1 w
  simp only [show (2 : Int) ^ 1 = 2 from rfl, show (2 : Int) ^ 2 = 4 from rfl, show (2 : Int) ^ 3 = 8 from rfl, show (2 : Int) ^ 4 = 16 from rfl, show (2 : Int) ^ 5 = 32 from rfl, show (2 : Int) ^ 6 = 64 from rfl, show (2 : Int) ^ 7 = 128 from rfl, show (2 : Int) ^ 8 = 256 from rfl, show (2 : Int) ^ 10 = 1024 from rfl, show (2 : Int) ^ 12 = 4096 from rfl, show (2 : Int) ^ 20 = 1048576 from rfl] at f7_5 f12_8 f20_1 f21_10 f31_1
  unfold pTk pPt
  rw [pRes_2]
  by_cases h : pSl 0 7 w = 111
  · rw [if_pos h]
    have ea : pAdv 2 (pSl 12 8 w * 4096 + pSl 20 1 w * 2048 + pSl 21 10 w * 2 + pSl 31 1 w * 1048576) = sxt 21 (pSl 12 8 w * 4096 + pSl 20 1 w * 2048 + pSl 21 10 w * 2 + pSl 31 1 w * 1048576) := pAdv_s (by decide +kernel) (by decide) (by decide) (by omega) (by show _ < (2097152 : Int); omega)
    have ej : pAdj 2 (pSl 7 5 w, 0, 0, pSl 12 8 w * 4096 + pSl 20 1 w * 2048 + pSl 21 10 w * 2 + pSl 31 1 w * 1048576) = (pSl 7 5 w, 0, 0, sxt 21 (pSl 12 8 w * 4096 + pSl 20 1 w * 2048 + pSl 21 10 w * 2 + pSl 31 1 w * 1048576)) := by
      unfold pAdj
      simp only [ea]
      rw [if_neg (by decide)]
    show (pGood 2 (pAdj 2 (pSl 7 5 w, 0, 0, pSl 12 8 w * 4096 + pSl 20 1 w * 2048 + pSl 21 10 w * 2 + pSl 31 1 w * 1048576)) = true ↔ _) ∧ (pGood 2 (pAdj 2 (pSl 7 5 w, 0, 0, pSl 12 8 w * 4096 + pSl 20 1 w * 2048 + pSl 21 10 w * 2 + pSl 31 1 w * 1048576)) = true → pAdj 2 (pSl 7 5 w, 0, 0, pSl 12 8 w * 4096 + pSl 20 1 w * 2048 + pSl 21 10 w * 2 + pSl 31 1 w * 1048576) = _)
    rw [ej]
    refine ⟨?_, fun _ => rfl⟩
    unfold pGood
    rw [show pHas 2 0 = true from by decide +kernel, show pHas 2 1 = false from by decide +kernel, show pHas 2 2 = false from by decide +kernel, show pHas 2 3 = true from by decide +kernel]
    simp only [Bool.not_true, Bool.not_false, Bool.false_or, Bool.true_or, Bool.and_true, Bool.true_and, Bool.and_eq_true, pReg_n (show pSho 2 0 = false from by decide +kernel), pImm_2, p4g_0, p4g_1, p4g_2, p4g_3]
    try simp only [sxt_6, sxt_9, sxt_10, sxt_12, sxt_13, sxt_21]
    repeat' split
    all_goals (first | omega | (simp; omega) | (simp; done))
  · rw [if_neg h]
    refine ⟨⟨fun q => (nomatch q), fun q => absurd (by exact q) h⟩, fun q => (nomatch q)⟩
theorem pTk_3 (w : Int) : (pTk 3 w = true ↔ pSl 0 7 w = 103 ∧ pSl 12 3 w = 0) ∧ (pTk 3 w = true → pPt 3 w = (pSl 7 5 w, pSl 15 5 w, 0, sxt 12 (pSl 20 12 w))) := by
  have f7_5 := pSl_lo 7 5 w
  have f15_5 := pSl_lo 15 5 w
  have f20_12 := pSl_lo 20 12 w
  simp only [show (2 : Int) ^ 1 = 2 from rfl, show (2 : Int) ^ 2 = 4 from rfl, show (2 : Int) ^ 3 = 8 from rfl, show (2 : Int) ^ 4 = 16 from rfl, show (2 : Int) ^ 5 = 32 from rfl, show (2 : Int) ^ 6 = 64 from rfl, show (2 : Int) ^ 7 = 128 from rfl, show (2 : Int) ^ 8 = 256 from rfl, show (2 : Int) ^ 10 = 1024 from rfl, show (2 : Int) ^ 12 = 4096 from rfl, show (2 : Int) ^ 20 = 1048576 from rfl] at f7_5 f15_5 f20_12
  unfold pTk pPt
  rw [pRes_3]
  by_cases h : pSl 0 7 w = 103 ∧ pSl 12 3 w = 0
  · rw [if_pos h]
    have ea : pAdv 3 (pSl 20 12 w) = sxt 12 (pSl 20 12 w) := pAdv_s (by decide +kernel) (by decide) (by decide) (by omega) (by show _ < (4096 : Int); omega)
    have ej : pAdj 3 (pSl 7 5 w, pSl 15 5 w, 0, pSl 20 12 w) = (pSl 7 5 w, pSl 15 5 w, 0, sxt 12 (pSl 20 12 w)) := by
      unfold pAdj
      simp only [ea]
      rw [if_neg (by decide)]
    show (pGood 3 (pAdj 3 (pSl 7 5 w, pSl 15 5 w, 0, pSl 20 12 w)) = true ↔ _) ∧ (pGood 3 (pAdj 3 (pSl 7 5 w, pSl 15 5 w, 0, pSl 20 12 w)) = true → pAdj 3 (pSl 7 5 w, pSl 15 5 w, 0, pSl 20 12 w) = _)
    rw [ej]
    refine ⟨?_, fun _ => rfl⟩
    unfold pGood
    rw [show pHas 3 0 = true from by decide +kernel, show pHas 3 1 = true from by decide +kernel, show pHas 3 2 = false from by decide +kernel, show pHas 3 3 = true from by decide +kernel]
    simp only [Bool.not_true, Bool.not_false, Bool.false_or, Bool.true_or, Bool.and_true, Bool.true_and, Bool.and_eq_true, pReg_n (show pSho 3 0 = false from by decide +kernel), pReg_n (show pSho 3 1 = false from by decide +kernel), pImm_3, p4g_0, p4g_1, p4g_2, p4g_3]
    try simp only [sxt_6, sxt_9, sxt_10, sxt_12, sxt_13, sxt_21]
    repeat' split
    all_goals (first | omega | (simp; omega) | (simp; done))
  · rw [if_neg h]
    refine ⟨⟨fun q => (nomatch q), fun q => absurd (by exact q) h⟩, fun q => (nomatch q)⟩
theorem pTk_4 (w : Int) : (pTk 4 w = true ↔ pSl 0 7 w = 99 ∧ pSl 12 3 w = 0) ∧ (pTk 4 w = true → pPt 4 w = (0, pSl 15 5 w, pSl 20 5 w, sxt 13 (pSl 7 1 w * 2048 + pSl 8 4 w * 2 + pSl 25 6 w * 32 + pSl 31 1 w * 4096))) := by
  have f7_1 := pSl_lo 7 1 w
  have f8_4 := pSl_lo 8 4 w
  have f15_5 := pSl_lo 15 5 w
  have f20_5 := pSl_lo 20 5 w
  have f25_6 := pSl_lo 25 6 w
  have f31_1 := pSl_lo 31 1 w
  simp only [show (2 : Int) ^ 1 = 2 from rfl, show (2 : Int) ^ 2 = 4 from rfl, show (2 : Int) ^ 3 = 8 from rfl, show (2 : Int) ^ 4 = 16 from rfl, show (2 : Int) ^ 5 = 32 from rfl, show (2 : Int) ^ 6 = 64 from rfl, show (2 : Int) ^ 7 = 128 from rfl, show (2 : Int) ^ 8 = 256 from rfl, show (2 : Int) ^ 10 = 1024 from rfl, show (2 : Int) ^ 12 = 4096 from rfl, show (2 : Int) ^ 20 = 1048576 from rfl] at f7_1 f8_4 f15_5 f20_5 f25_6 f31_1
  unfold pTk pPt
  rw [pRes_4]
  by_cases h : pSl 0 7 w = 99 ∧ pSl 12 3 w = 0
  · rw [if_pos h]
    have ea : pAdv 4 (pSl 7 1 w * 2048 + pSl 8 4 w * 2 + pSl 25 6 w * 32 + pSl 31 1 w * 4096) = sxt 13 (pSl 7 1 w * 2048 + pSl 8 4 w * 2 + pSl 25 6 w * 32 + pSl 31 1 w * 4096) := pAdv_s (by decide +kernel) (by decide) (by decide) (by omega) (by show _ < (8192 : Int); omega)
    have ej : pAdj 4 (0, pSl 15 5 w, pSl 20 5 w, pSl 7 1 w * 2048 + pSl 8 4 w * 2 + pSl 25 6 w * 32 + pSl 31 1 w * 4096) = (0, pSl 15 5 w, pSl 20 5 w, sxt 13 (pSl 7 1 w * 2048 + pSl 8 4 w * 2 + pSl 25 6 w * 32 + pSl 31 1 w * 4096)) := by
      unfold pAdj
      simp only [ea]
      rw [if_neg (by decide)]
    show (pGood 4 (pAdj 4 (0, pSl 15 5 w, pSl 20 5 w, pSl 7 1 w * 2048 + pSl 8 4 w * 2 + pSl 25 6 w * 32 + pSl 31 1 w * 4096)) = true ↔ _) ∧ (pGood 4 (pAdj 4 (0, pSl 15 5 w, pSl 20 5 w, pSl 7 1 w * 2048 + pSl 8 4 w * 2 + pSl 25 6 w * 32 + pSl 31 1 w * 4096)) = true → pAdj 4 (0, pSl 15 5 w, pSl 20 5 w, pSl 7 1 w * 2048 + pSl 8 4 w * 2 + pSl 25 6 w * 32 + pSl 31 1 w * 4096) = _)
    rw [ej]
    refine ⟨?_, fun _ => rfl⟩
    unfold pGood
    rw [show pHas 4 0 = false from by decide +kernel, show pHas 4 1 = true from by decide +kernel, show pHas 4 2 = true from by decide +kernel, show pHas 4 3 = true from by decide +kernel]
    simp only [Bool.not_true, Bool.not_false, Bool.false_or, Bool.true_or, Bool.and_true, Bool.true_and, Bool.and_eq_true, pReg_n (show pSho 4 1 = false from by decide +kernel), pReg_n (show pSho 4 2 = false from by decide +kernel), pImm_4, p4g_0, p4g_1, p4g_2, p4g_3]
    try simp only [sxt_6, sxt_9, sxt_10, sxt_12, sxt_13, sxt_21]
    repeat' split
    all_goals (first | omega | (simp; omega) | (simp; done))
  · rw [if_neg h]
    refine ⟨⟨fun q => (nomatch q), fun q => absurd (by exact q) h⟩, fun q => (nomatch q)⟩
theorem pTk_5 (w : Int) : (pTk 5 w = true ↔ pSl 0 7 w = 99 ∧ pSl 12 3 w = 1) ∧ (pTk 5 w = true → pPt 5 w = (0, pSl 15 5 w, pSl 20 5 w, sxt 13 (pSl 7 1 w * 2048 + pSl 8 4 w * 2 + pSl 25 6 w * 32 + pSl 31 1 w * 4096))) := by
  have f7_1 := pSl_lo 7 1 w
  have f8_4 := pSl_lo 8 4 w
  have f15_5 := pSl_lo 15 5 w
  have f20_5 := pSl_lo 20 5 w
  have f25_6 := pSl_lo 25 6 w
  have f31_1 := pSl_lo 31 1 w
  simp only [show (2 : Int) ^ 1 = 2 from rfl, show (2 : Int) ^ 2 = 4 from rfl, show (2 : Int) ^ 3 = 8 from rfl, show (2 : Int) ^ 4 = 16 from rfl, show (2 : Int) ^ 5 = 32 from rfl, show (2 : Int) ^ 6 = 64 from rfl, show (2 : Int) ^ 7 = 128 from rfl, show (2 : Int) ^ 8 = 256 from rfl, show (2 : Int) ^ 10 = 1024 from rfl, show (2 : Int) ^ 12 = 4096 from rfl, show (2 : Int) ^ 20 = 1048576 from rfl] at f7_1 f8_4 f15_5 f20_5 f25_6 f31_1
  unfold pTk pPt
  rw [pRes_5]
  by_cases h : pSl 0 7 w = 99 ∧ pSl 12 3 w = 1
  · rw [if_pos h]
    have ea : pAdv 5 (pSl 7 1 w * 2048 + pSl 8 4 w * 2 + pSl 25 6 w * 32 + pSl 31 1 w * 4096) = sxt 13 (pSl 7 1 w * 2048 + pSl 8 4 w * 2 + pSl 25 6 w * 32 + pSl 31 1 w * 4096) := pAdv_s (by decide +kernel) (by decide) (by decide) (by omega) (by show _ < (8192 : Int); omega)
    have ej : pAdj 5 (0, pSl 15 5 w, pSl 20 5 w, pSl 7 1 w * 2048 + pSl 8 4 w * 2 + pSl 25 6 w * 32 + pSl 31 1 w * 4096) = (0, pSl 15 5 w, pSl 20 5 w, sxt 13 (pSl 7 1 w * 2048 + pSl 8 4 w * 2 + pSl 25 6 w * 32 + pSl 31 1 w * 4096)) := by
      unfold pAdj
      simp only [ea]
      rw [if_neg (by decide)]
    show (pGood 5 (pAdj 5 (0, pSl 15 5 w, pSl 20 5 w, pSl 7 1 w * 2048 + pSl 8 4 w * 2 + pSl 25 6 w * 32 + pSl 31 1 w * 4096)) = true ↔ _) ∧ (pGood 5 (pAdj 5 (0, pSl 15 5 w, pSl 20 5 w, pSl 7 1 w * 2048 + pSl 8 4 w * 2 + pSl 25 6 w * 32 + pSl 31 1 w * 4096)) = true → pAdj 5 (0, pSl 15 5 w, pSl 20 5 w, pSl 7 1 w * 2048 + pSl 8 4 w * 2 + pSl 25 6 w * 32 + pSl 31 1 w * 4096) = _)
    rw [ej]
    refine ⟨?_, fun _ => rfl⟩
    unfold pGood
    rw [show pHas 5 0 = false from by decide +kernel, show pHas 5 1 = true from by decide +kernel, show pHas 5 2 = true from by decide +kernel, show pHas 5 3 = true from by decide +kernel]
    simp only [Bool.not_true, Bool.not_false, Bool.false_or, Bool.true_or, Bool.and_true, Bool.true_and, Bool.and_eq_true, pReg_n (show pSho 5 1 = false from by decide +kernel), pReg_n (show pSho 5 2 = false from by decide +kernel), pImm_5, p4g_0, p4g_1, p4g_2, p4g_3]
    try simp only [sxt_6, sxt_9, sxt_10, sxt_12, sxt_13, sxt_21]
    repeat' split
    all_goals (first | omega | (simp; omega) | (simp; done))
  · rw [if_neg h]
    refine ⟨⟨fun q => (nomatch q), fun q => absurd (by exact q) h⟩, fun q => (nomatch q)⟩
theorem pTk_6 (w : Int) : (pTk 6 w = true ↔ pSl 0 7 w = 99 ∧ pSl 12 3 w = 4) ∧ (pTk 6 w = true → pPt 6 w = (0, pSl 15 5 w, pSl 20 5 w, sxt 13 (pSl 7 1 w * 2048 + pSl 8 4 w * 2 + pSl 25 6 w * 32 + pSl 31 1 w * 4096))) := by
  have f7_1 := pSl_lo 7 1 w
  have f8_4 := pSl_lo 8 4 w
  have f15_5 := pSl_lo 15 5 w
  have f20_5 := pSl_lo 20 5 w
  have f25_6 := pSl_lo 25 6 w
  have f31_1 := pSl_lo 31 1 w
  simp only [show (2 : Int) ^ 1 = 2 from rfl, show (2 : Int) ^ 2 = 4 from rfl, show (2 : Int) ^ 3 = 8 from rfl, show (2 : Int) ^ 4 = 16 from rfl, show (2 : Int) ^ 5 = 32 from rfl, show (2 : Int) ^ 6 = 64 from rfl, show (2 : Int) ^ 7 = 128 from rfl, show (2 : Int) ^ 8 = 256 from rfl, show (2 : Int) ^ 10 = 1024 from rfl, show (2 : Int) ^ 12 = 4096 from rfl, show (2 : Int) ^ 20 = 1048576 from rfl] at f7_1 f8_4 f15_5 f20_5 f25_6 f31_1
  unfold pTk pPt
  rw [pRes_6]
  by_cases h : pSl 0 7 w = 99 ∧ pSl 12 3 w = 4
  · rw [if_pos h]
    have ea : pAdv 6 (pSl 7 1 w * 2048 + pSl 8 4 w * 2 + pSl 25 6 w * 32 + pSl 31 1 w * 4096) = sxt 13 (pSl 7 1 w * 2048 + pSl 8 4 w * 2 + pSl 25 6 w * 32 + pSl 31 1 w * 4096) := pAdv_s (by decide +kernel) (by decide) (by decide) (by omega) (by show _ < (8192 : Int); omega)
    have ej : pAdj 6 (0, pSl 15 5 w, pSl 20 5 w, pSl 7 1 w * 2048 + pSl 8 4 w * 2 + pSl 25 6 w * 32 + pSl 31 1 w * 4096) = (0, pSl 15 5 w, pSl 20 5 w, sxt 13 (pSl 7 1 w * 2048 + pSl 8 4 w * 2 + pSl 25 6 w * 32 + pSl 31 1 w * 4096)) := by
      unfold pAdj
      simp only [ea]
      rw [if_neg (by decide)]
    show (pGood 6 (pAdj 6 (0, pSl 15 5 w, pSl 20 5 w, pSl 7 1 w * 2048 + pSl 8 4 w * 2 + pSl 25 6 w * 32 + pSl 31 1 w * 4096)) = true ↔ _) ∧ (pGood 6 (pAdj 6 (0, pSl 15 5 w, pSl 20 5 w, pSl 7 1 w * 2048 + pSl 8 4 w * 2 + pSl 25 6 w * 32 + pSl 31 1 w * 4096)) = true → pAdj 6 (0, pSl 15 5 w, pSl 20 5 w, pSl 7 1 w * 2048 + pSl 8 4 w * 2 + pSl 25 6 w * 32 + pSl 31 1 w * 4096) = _)
    rw [ej]
    refine ⟨?_, fun _ => rfl⟩
    unfold pGood
    rw [show pHas 6 0 = false from by decide +kernel, show pHas 6 1 = true from by decide +kernel, show pHas 6 2 = true from by decide +kernel, show pHas 6 3 = true from by decide +kernel]
    simp only [Bool.not_true, Bool.not_false, Bool.false_or, Bool.true_or, Bool.and_true, Bool.true_and, Bool.and_eq_true, pReg_n (show pSho 6 1 = false from by decide +kernel), pReg_n (show pSho 6 2 = false from by decide +kernel), pImm_6, p4g_0, p4g_1, p4g_2, p4g_3]
    try simp only [sxt_6, sxt_9, sxt_10, sxt_12, sxt_13, sxt_21]
    repeat' split
    all_goals (first | omega | (simp; omega) | (simp; done))
  · rw [if_neg h]
    refine ⟨⟨fun q => (nomatch q), fun q => absurd (by exact q) h⟩, fun q => (nomatch q)⟩
theorem pTk_7 (w : Int) : (pTk 7 w = true ↔ pSl 0 7 w = 99 ∧ pSl 12 3 w = 5) ∧ (pTk 7 w = true → pPt 7 w = (0, pSl 15 5 w, pSl 20 5 w, sxt 13 (pSl 7 1 w * 2048 + pSl 8 4 w * 2 + pSl 25 6 w * 32 + pSl 31 1 w * 4096))) := by
  have f7_1 := pSl_lo 7 1 w
  have f8_4 := pSl_lo 8 4 w
  have f15_5 := pSl_lo 15 5 w
  have f20_5 := pSl_lo 20 5 w
  have f25_6 := pSl_lo 25 6 w
  have f31_1 := pSl_lo 31 1 w
  simp only [show (2 : Int) ^ 1 = 2 from rfl, show (2 : Int) ^ 2 = 4 from rfl, show (2 : Int) ^ 3 = 8 from rfl, show (2 : Int) ^ 4 = 16 from rfl, show (2 : Int) ^ 5 = 32 from rfl, show (2 : Int) ^ 6 = 64 from rfl, show (2 : Int) ^ 7 = 128 from rfl, show (2 : Int) ^ 8 = 256 from rfl, show (2 : Int) ^ 10 = 1024 from rfl, show (2 : Int) ^ 12 = 4096 from rfl, show (2 : Int) ^ 20 = 1048576 from rfl] at f7_1 f8_4 f15_5 f20_5 f25_6 f31_1
  unfold pTk pPt
  rw [pRes_7]
  by_cases h : pSl 0 7 w = 99 ∧ pSl 12 3 w = 5
  · rw [if_pos h]
    have ea : pAdv 7 (pSl 7 1 w * 2048 + pSl 8 4 w * 2 + pSl 25 6 w * 32 + pSl 31 1 w * 4096) = sxt 13 (pSl 7 1 w * 2048 + pSl 8 4 w * 2 + pSl 25 6 w * 32 + pSl 31 1 w * 4096) := pAdv_s (by decide +kernel) (by decide) (by decide) (by omega) (by show _ < (8192 : Int); omega)
    have ej : pAdj 7 (0, pSl 15 5 w, pSl 20 5 w, pSl 7 1 w * 2048 + pSl 8 4 w * 2 + pSl 25 6 w * 32 + pSl 31 1 w * 4096) = (0, pSl 15 5 w, pSl 20 5 w, sxt 13 (pSl 7 1 w * 2048 + pSl 8 4 w * 2 + pSl 25 6 w * 32 + pSl 31 1 w * 4096)) := by
      unfold pAdj
      simp only [ea]
      rw [if_neg (by decide)]
    show (pGood 7 (pAdj 7 (0, pSl 15 5 w, pSl 20 5 w, pSl 7 1 w * 2048 + pSl 8 4 w * 2 + pSl 25 6 w * 32 + pSl 31 1 w * 4096)) = true ↔ _) ∧ (pGood 7 (pAdj 7 (0, pSl 15 5 w, pSl 20 5 w, pSl 7 1 w * 2048 + pSl 8 4 w * 2 + pSl 25 6 w * 32 + pSl 31 1 w * 4096)) = true → pAdj 7 (0, pSl 15 5 w, pSl 20 5 w, pSl 7 1 w * 2048 + pSl 8 4 w * 2 + pSl 25 6 w * 32 + pSl 31 1 w * 4096) = _)
    rw [ej]
    refine ⟨?_, fun _ => rfl⟩
    unfold pGood
    rw [show pHas 7 0 = false from by decide +kernel, show pHas 7 1 = true from by decide +kernel, show pHas 7 2 = true from by decide +kernel, show pHas 7 3 = true from by decide +kernel]
    simp only [Bool.not_true, Bool.not_false, Bool.false_or, Bool.true_or, Bool.and_true, Bool.true_and, Bool.and_eq_true, pReg_n (show pSho 7 1 = false from by decide +kernel), pReg_n (show pSho 7 2 = false from by decide +kernel), pImm_7, p4g_0, p4g_1, p4g_2, p4g_3]
    try simp only [sxt_6, sxt_9, sxt_10, sxt_12, sxt_13, sxt_21]
    repeat' split
    all_goals (first | omega | (simp; omega) | (simp; done))
  · rw [if_neg h]
    refine ⟨⟨fun q => (nomatch q), fun q => absurd (by exact q) h⟩, fun q => (nomatch q)⟩
theorem pTk_8 (w : Int) : (pTk 8 w = true ↔ pSl 0 7 w = 99 ∧ pSl 12 3 w = 6) ∧ (pTk 8 w = true → pPt 8 w = (0, pSl 15 5 w, pSl 20 5 w, sxt 13 (pSl 7 1 w * 2048 + pSl 8 4 w * 2 + pSl 25 6 w * 32 + pSl 31 1 w * 4096))) := by
  have f7_1 := pSl_lo 7 1 w
  have f8_4 := pSl_lo 8 4 w
  have f15_5 := pSl_lo 15 5 w
  have f20_5 := pSl_lo 20 5 w
  have f25_6 := pSl_lo 25 6 w
  have f31_1 := pSl_lo 31 1 w
  simp only [show (2 : Int) ^ 1 = 2 from rfl, show (2 : Int) ^ 2 = 4 from rfl, show (2 : Int) ^ 3 = 8 from rfl, show (2 : Int) ^ 4 = 16 from rfl, show (2 : Int) ^ 5 = 32 from rfl, show (2 : Int) ^ 6 = 64 from rfl, show (2 : Int) ^ 7 = 128 from rfl, show (2 : Int) ^ 8 = 256 from rfl, show (2 : Int) ^ 10 = 1024 from rfl, show (2 : Int) ^ 12 = 4096 from rfl, show (2 : Int) ^ 20 = 1048576 from rfl] at f7_1 f8_4 f15_5 f20_5 f25_6 f31_1
  unfold pTk pPt
  rw [pRes_8]
  by_cases h : pSl 0 7 w = 99 ∧ pSl 12 3 w = 6
  · rw [if_pos h]
    have ea : pAdv 8 (pSl 7 1 w * 2048 + pSl 8 4 w * 2 + pSl 25 6 w * 32 + pSl 31 1 w * 4096) = sxt 13 (pSl 7 1 w * 2048 + pSl 8 4 w * 2 + pSl 25 6 w * 32 + pSl 31 1 w * 4096) := pAdv_s (by decide +kernel) (by decide) (by decide) (by omega) (by show _ < (8192 : Int); omega)
    have ej : pAdj 8 (0, pSl 15 5 w, pSl 20 5 w, pSl 7 1 w * 2048 + pSl 8 4 w * 2 + pSl 25 6 w * 32 + pSl 31 1 w * 4096) = (0, pSl 15 5 w, pSl 20 5 w, sxt 13 (pSl 7 1 w * 2048 + pSl 8 4 w * 2 + pSl 25 6 w * 32 + pSl 31 1 w * 4096)) := by
      unfold pAdj
      simp only [ea]
      rw [if_neg (by decide)]
    show (pGood 8 (pAdj 8 (0, pSl 15 5 w, pSl 20 5 w, pSl 7 1 w * 2048 + pSl 8 4 w * 2 + pSl 25 6 w * 32 + pSl 31 1 w * 4096)) = true ↔ _) ∧ (pGood 8 (pAdj 8 (0, pSl 15 5 w, pSl 20 5 w, pSl 7 1 w * 2048 + pSl 8 4 w * 2 + pSl 25 6 w * 32 + pSl 31 1 w * 4096)) = true → pAdj 8 (0, pSl 15 5 w, pSl 20 5 w, pSl 7 1 w * 2048 + pSl 8 4 w * 2 + pSl 25 6 w * 32 + pSl 31 1 w * 4096) = _)
    rw [ej]
    refine ⟨?_, fun _ => rfl⟩
    unfold pGood
    rw [show pHas 8 0 = false from by decide +kernel, show pHas 8 1 = true from by decide +kernel, show pHas 8 2 = true from by decide +kernel, show pHas 8 3 = true from by decide +kernel]
    simp only [Bool.not_true, Bool.not_false, Bool.false_or, Bool.true_or, Bool.and_true, Bool.true_and, Bool.and_eq_true, pReg_n (show pSho 8 1 = false from by decide +kernel), pReg_n (show pSho 8 2 = false from by decide +kernel), pImm_8, p4g_0, p4g_1, p4g_2, p4g_3]
    try simp only [sxt_6, sxt_9, sxt_10, sxt_12, sxt_13, sxt_21]
    repeat' split
    all_goals (first | omega | (simp; omega) | (simp; done))
  · rw [if_neg h]
    refine ⟨⟨fun q => (nomatch q), fun q => absurd (by exact q) h⟩, fun q => (nomatch q)⟩
theorem pTk_9 (w : Int) : (pTk 9 w = true ↔ pSl 0 7 w = 99 ∧ pSl 12 3 w = 7) ∧ (pTk 9 w = true → pPt 9 w = (0, pSl 15 5 w, pSl 20 5 w, sxt 13 (pSl 7 1 w * 2048 + pSl 8 4 w * 2 + pSl 25 6 w * 32 + pSl 31 1 w * 4096))) := by
  have f7_1 := pSl_lo 7 1 w
  have f8_4 := pSl_lo 8 4 w
  have f15_5 := pSl_lo 15 5 w
  have f20_5 := pSl_lo 20 5 w
  have f25_6 := pSl_lo 25 6 w
  have f31_1 := pSl_lo 31 1 w
  simp only [show (2 : Int) ^ 1 = 2 from rfl, show (2 : Int) ^ 2 = 4 from rfl, show (2 : Int) ^ 3 = 8 from rfl, show (2 : Int) ^ 4 = 16 from rfl, show (2 : Int) ^ 5 = 32 from rfl, show (2 : Int) ^ 6 = 64 from rfl, show (2 : Int) ^ 7 = 128 from rfl, show (2 : Int) ^ 8 = 256 from rfl, show (2 : Int) ^ 10 = 1024 from rfl, show (2 : Int) ^ 12 = 4096 from rfl, show (2 : Int) ^ 20 = 1048576 from rfl] at f7_1 f8_4 f15_5 f20_5 f25_6 f31_1
  unfold pTk pPt
  rw [pRes_9]
  by_cases h : pSl 0 7 w = 99 ∧ pSl 12 3 w = 7
  · rw [if_pos h]
    have ea : pAdv 9 (pSl 7 1 w * 2048 + pSl 8 4 w * 2 + pSl 25 6 w * 32 + pSl 31 1 w * 4096) = sxt 13 (pSl 7 1 w * 2048 + pSl 8 4 w * 2 + pSl 25 6 w * 32 + pSl 31 1 w * 4096) := pAdv_s (by decide +kernel) (by decide) (by decide) (by omega) (by show _ < (8192 : Int); omega)
    have ej : pAdj 9 (0, pSl 15 5 w, pSl 20 5 w, pSl 7 1 w * 2048 + pSl 8 4 w * 2 + pSl 25 6 w * 32 + pSl 31 1 w * 4096) = (0, pSl 15 5 w, pSl 20 5 w, sxt 13 (pSl 7 1 w * 2048 + pSl 8 4 w * 2 + pSl 25 6 w * 32 + pSl 31 1 w * 4096)) := by
      unfold pAdj
      simp only [ea]
      rw [if_neg (by decide)]
    show (pGood 9 (pAdj 9 (0, pSl 15 5 w, pSl 20 5 w, pSl 7 1 w * 2048 + pSl 8 4 w * 2 + pSl 25 6 w * 32 + pSl 31 1 w * 4096)) = true ↔ _) ∧ (pGood 9 (pAdj 9 (0, pSl 15 5 w, pSl 20 5 w, pSl 7 1 w * 2048 + pSl 8 4 w * 2 + pSl 25 6 w * 32 + pSl 31 1 w * 4096)) = true → pAdj 9 (0, pSl 15 5 w, pSl 20 5 w, pSl 7 1 w * 2048 + pSl 8 4 w * 2 + pSl 25 6 w * 32 + pSl 31 1 w * 4096) = _)
    rw [ej]
    refine ⟨?_, fun _ => rfl⟩
    unfold pGood
    rw [show pHas 9 0 = false from by decide +kernel, show pHas 9 1 = true from by decide +kernel, show pHas 9 2 = true from by decide +kernel, show pHas 9 3 = true from by decide +kernel]
    simp only [Bool.not_true, Bool.not_false, Bool.false_or, Bool.true_or, Bool.and_true, Bool.true_and, Bool.and_eq_true, pReg_n (show pSho 9 1 = false from by decide +kernel), pReg_n (show pSho 9 2 = false from by decide +kernel), pImm_9, p4g_0, p4g_1, p4g_2, p4g_3]
    try simp only [sxt_6, sxt_9, sxt_10, sxt_12, sxt_13, sxt_21]
    repeat' split
    all_goals (first | omega | (simp; omega) | (simp; done))
  · rw [if_neg h]
    refine ⟨⟨fun q => (nomatch q), fun q => absurd (by exact q) h⟩, fun q => (nomatch q)⟩
theorem pTk_10 (w : Int) : (pTk 10 w = true ↔ pSl 0 7 w = 3 ∧ pSl 12 3 w = 0) ∧ (pTk 10 w = true → pPt 10 w = (pSl 7 5 w, pSl 15 5 w, 0, sxt 12 (pSl 20 12 w))) := by
  have f7_5 := pSl_lo 7 5 w
  have f15_5 := pSl_lo 15 5 w
  have f20_12 := pSl_lo 20 12 w
  simp only [show (2 : Int) ^ 1 = 2 from rfl, show (2 : Int) ^ 2 = 4 from rfl, show (2 : Int) ^ 3 = 8 from rfl, show (2 : Int) ^ 4 = 16 from rfl, show (2 : Int) ^ 5 = 32 from rfl, show (2 : Int) ^ 6 = 64 from rfl, show (2 : Int) ^ 7 = 128 from rfl, show (2 : Int) ^ 8 = 256 from rfl, show (2 : Int) ^ 10 = 1024 from rfl, show (2 : Int) ^ 12 = 4096 from rfl, show (2 : Int) ^ 20 = 1048576 from rfl] at f7_5 f15_5 f20_12
  unfold pTk pPt
  rw [pRes_10]
  by_cases h : pSl 0 7 w = 3 ∧ pSl 12 3 w = 0
  · rw [if_pos h]
    have ea : pAdv 10 (pSl 20 12 w) = sxt 12 (pSl 20 12 w) := pAdv_s (by decide +kernel) (by decide) (by decide) (by omega) (by show _ < (4096 : Int); omega)
    have ej : pAdj 10 (pSl 7 5 w, pSl 15 5 w, 0, pSl 20 12 w) = (pSl 7 5 w, pSl 15 5 w, 0, sxt 12 (pSl 20 12 w)) := by
      unfold pAdj
      simp only [ea]
      rw [if_neg (by decide)]
    show (pGood 10 (pAdj 10 (pSl 7 5 w, pSl 15 5 w, 0, pSl 20 12 w)) = true ↔ _) ∧ (pGood 10 (pAdj 10 (pSl 7 5 w, pSl 15 5 w, 0, pSl 20 12 w)) = true → pAdj 10 (pSl 7 5 w, pSl 15 5 w, 0, pSl 20 12 w) = _)
    rw [ej]
    refine ⟨?_, fun _ => rfl⟩
    unfold pGood
    rw [show pHas 10 0 = true from by decide +kernel, show pHas 10 1 = true from by decide +kernel, show pHas 10 2 = false from by decide +kernel, show pHas 10 3 = true from by decide +kernel]
    simp only [Bool.not_true, Bool.not_false, Bool.false_or, Bool.true_or, Bool.and_true, Bool.true_and, Bool.and_eq_true, pReg_n (show pSho 10 0 = false from by decide +kernel), pReg_n (show pSho 10 1 = false from by decide +kernel), pImm_10, p4g_0, p4g_1, p4g_2, p4g_3]
    try simp only [sxt_6, sxt_9, sxt_10, sxt_12, sxt_13, sxt_21]
    repeat' split
    all_goals (first | omega | (simp; omega) | (simp; done))
  · rw [if_neg h]
    refine ⟨⟨fun q => (nomatch q), fun q => absurd (by exact q) h⟩, fun q => (nomatch q)⟩
theorem pTk_11 (w : Int) : (pTk 11 w = true ↔ pSl 0 7 w = 3 ∧ pSl 12 3 w = 1) ∧ (pTk 11 w = true → pPt 11 w = (pSl 7 5 w, pSl 15 5 w, 0, sxt 12 (pSl 20 12 w))) := by
  have f7_5 := pSl_lo 7 5 w
  have f15_5 := pSl_lo 15 5 w
  have f20_12 := pSl_lo 20 12 w
  simp only [show (2 : Int) ^ 1 = 2 from rfl, show (2 : Int) ^ 2 = 4 from rfl, show (2 : Int) ^ 3 = 8 from rfl, show (2 : Int) ^ 4 = 16 from rfl, show (2 : Int) ^ 5 = 32 from rfl, show (2 : Int) ^ 6 = 64 from rfl, show (2 : Int) ^ 7 = 128 from rfl, show (2 : Int) ^ 8 = 256 from rfl, show (2 : Int) ^ 10 = 1024 from rfl, show (2 : Int) ^ 12 = 4096 from rfl, show (2 : Int) ^ 20 = 1048576 from rfl] at f7_5 f15_5 f20_12
  unfold pTk pPt
  rw [pRes_11]
  by_cases h : pSl 0 7 w = 3 ∧ pSl 12 3 w = 1
  · rw [if_pos h]
    have ea : pAdv 11 (pSl 20 12 w) = sxt 12 (pSl 20 12 w) := pAdv_s (by decide +kernel) (by decide) (by decide) (by omega) (by show _ < (4096 : Int); omega)
    have ej : pAdj 11 (pSl 7 5 w, pSl 15 5 w, 0, pSl 20 12 w) = (pSl 7 5 w, pSl 15 5 w, 0, sxt 12 (pSl 20 12 w)) := by
      unfold pAdj
      simp only [ea]
      rw [if_neg (by decide)]
    show (pGood 11 (pAdj 11 (pSl 7 5 w, pSl 15 5 w, 0, pSl 20 12 w)) = true ↔ _) ∧ (pGood 11 (pAdj 11 (pSl 7 5 w, pSl 15 5 w, 0, pSl 20 12 w)) = true → pAdj 11 (pSl 7 5 w, pSl 15 5 w, 0, pSl 20 12 w) = _)
    rw [ej]
    refine ⟨?_, fun _ => rfl⟩
    unfold pGood
    rw [show pHas 11 0 = true from by decide +kernel, show pHas 11 1 = true from by decide +kernel, show pHas 11 2 = false from by decide +kernel, show pHas 11 3 = true from by decide +kernel]
    simp only [Bool.not_true, Bool.not_false, Bool.false_or, Bool.true_or, Bool.and_true, Bool.true_and, Bool.and_eq_true, pReg_n (show pSho 11 0 = false from by decide +kernel), pReg_n (show pSho 11 1 = false from by decide +kernel), pImm_11, p4g_0, p4g_1, p4g_2, p4g_3]
    try simp only [sxt_6, sxt_9, sxt_10, sxt_12, sxt_13, sxt_21]
    repeat' split
    all_goals (first | omega | (simp; omega) | (simp; done))
  · rw [if_neg h]
    refine ⟨⟨fun q => (nomatch q), fun q => absurd (by exact q) h⟩, fun q => (nomatch q)⟩
theorem pTk_12 (w : Int) : (pTk 12 w = true ↔ pSl 0 7 w = 3 ∧ pSl 12 3 w = 2) ∧ (pTk 12 w = true → pPt 12 w = (pSl 7 5 w, pSl 15 5 w, 0, sxt 12 (pSl 20 12 w))) := by
  have f7_5 := pSl_lo 7 5 w
  have f15_5 := pSl_lo 15 5 w
  have f20_12 := pSl_lo 20 12 w
  simp only [show (2 : Int) ^ 1 = 2 from rfl, show (2 : Int) ^ 2 = 4 from rfl, show (2 : Int) ^ 3 = 8 from rfl, show (2 : Int) ^ 4 = 16 from rfl, show (2 : Int) ^ 5 = 32 from rfl, show (2 : Int) ^ 6 = 64 from rfl, show (2 : Int) ^ 7 = 128 from rfl, show (2 : Int) ^ 8 = 256 from rfl, show (2 : Int) ^ 10 = 1024 from rfl, show (2 : Int) ^ 12 = 4096 from rfl, show (2 : Int) ^ 20 = 1048576 from rfl] at f7_5 f15_5 f20_12
  unfold pTk pPt
  rw [pRes_12]
  by_cases h : pSl 0 7 w = 3 ∧ pSl 12 3 w = 2
  · rw [if_pos h]
    have ea : pAdv 12 (pSl 20 12 w) = sxt 12 (pSl 20 12 w) := pAdv_s (by decide +kernel) (by decide) (by decide) (by omega) (by show _ < (4096 : Int); omega)
    have ej : pAdj 12 (pSl 7 5 w, pSl 15 5 w, 0, pSl 20 12 w) = (pSl 7 5 w, pSl 15 5 w, 0, sxt 12 (pSl 20 12 w)) := by
      unfold pAdj
      simp only [ea]
      rw [if_neg (by decide)]
    show (pGood 12 (pAdj 12 (pSl 7 5 w, pSl 15 5 w, 0, pSl 20 12 w)) = true ↔ _) ∧ (pGood 12 (pAdj 12 (pSl 7 5 w, pSl 15 5 w, 0, pSl 20 12 w)) = true → pAdj 12 (pSl 7 5 w, pSl 15 5 w, 0, pSl 20 12 w) = _)
    rw [ej]
    refine ⟨?_, fun _ => rfl⟩
    unfold pGood
    rw [show pHas 12 0 = true from by decide +kernel, show pHas 12 1 = true from by decide +kernel, show pHas 12 2 = false from by decide +kernel, show pHas 12 3 = true from by decide +kernel]
    simp only [Bool.not_true, Bool.not_false, Bool.false_or, Bool.true_or, Bool.and_true, Bool.true_and, Bool.and_eq_true, pReg_n (show pSho 12 0 = false from by decide +kernel), pReg_n (show pSho 12 1 = false from by decide +kernel), pImm_12, p4g_0, p4g_1, p4g_2, p4g_3]
    try simp only [sxt_6, sxt_9, sxt_10, sxt_12, sxt_13, sxt_21]
    repeat' split
    all_goals (first | omega | (simp; omega) | (simp; done))
  · rw [if_neg h]
    refine ⟨⟨fun q => (nomatch q), fun q => absurd (by exact q) h⟩, fun q => (nomatch q)⟩
theorem pTk_13 (w : Int) : (pTk 13 w = true ↔ pSl 0 7 w = 3 ∧ pSl 12 3 w = 4) ∧ (pTk 13 w = true → pPt 13 w = (pSl 7 5 w, pSl 15 5 w, 0, sxt 12 (pSl 20 12 w))) := by
  have f7_5 := pSl_lo 7 5 w
  have f15_5 := pSl_lo 15 5 w
  have f20_12 := pSl_lo 20 12 w
  simp only [show (2 : Int) ^ 1 = 2 from rfl, show (2 : Int) ^ 2 = 4 from rfl, show (2 : Int) ^ 3 = 8 from rfl, show (2 : Int) ^ 4 = 16 from rfl, show (2 : Int) ^ 5 = 32 from rfl, show (2 : Int) ^ 6 = 64 from rfl, show (2 : Int) ^ 7 = 128 from rfl, show (2 : Int) ^ 8 = 256 from rfl, show (2 : Int) ^ 10 = 1024 from rfl, show (2 : Int) ^ 12 = 4096 from rfl, show (2 : Int) ^ 20 = 1048576 from rfl] at f7_5 f15_5 f20_12
  unfold pTk pPt
  rw [pRes_13]
  by_cases h : pSl 0 7 w = 3 ∧ pSl 12 3 w = 4
  · rw [if_pos h]
    have ea : pAdv 13 (pSl 20 12 w) = sxt 12 (pSl 20 12 w) := pAdv_s (by decide +kernel) (by decide) (by decide) (by omega) (by show _ < (4096 : Int); omega)
    have ej : pAdj 13 (pSl 7 5 w, pSl 15 5 w, 0, pSl 20 12 w) = (pSl 7 5 w, pSl 15 5 w, 0, sxt 12 (pSl 20 12 w)) := by
      unfold pAdj
      simp only [ea]
      rw [if_neg (by decide)]
    show (pGood 13 (pAdj 13 (pSl 7 5 w, pSl 15 5 w, 0, pSl 20 12 w)) = true ↔ _) ∧ (pGood 13 (pAdj 13 (pSl 7 5 w, pSl 15 5 w, 0, pSl 20 12 w)) = true → pAdj 13 (pSl 7 5 w, pSl 15 5 w, 0, pSl 20 12 w) = _)
    rw [ej]
    refine ⟨?_, fun _ => rfl⟩
    unfold pGood
    rw [show pHas 13 0 = true from by decide +kernel, show pHas 13 1 = true from by decide +kernel, show pHas 13 2 = false from by decide +kernel, show pHas 13 3 = true from by decide +kernel]
    simp only [Bool.not_true, Bool.not_false, Bool.false_or, Bool.true_or, Bool.and_true, Bool.true_and, Bool.and_eq_true, pReg_n (show pSho 13 0 = false from by decide +kernel), pReg_n (show pSho 13 1 = false from by decide +kernel), pImm_13, p4g_0, p4g_1, p4g_2, p4g_3]
    try simp only [sxt_6, sxt_9, sxt_10, sxt_12, sxt_13, sxt_21]
    repeat' split
    all_goals (first | omega | (simp; omega) | (simp; done))
  · rw [if_neg h]
    refine ⟨⟨fun q => (nomatch q), fun q => absurd (by exact q) h⟩, fun q => (nomatch q)⟩
theorem pTk_14 (w : Int) : (pTk 14 w = true ↔ pSl 0 7 w = 3 ∧ pSl 12 3 w = 5) ∧ (pTk 14 w = true → pPt 14 w = (pSl 7 5 w, pSl 15 5 w, 0, sxt 12 (pSl 20 12 w))) := by
  have f7_5 := pSl_lo 7 5 w
  have f15_5 := pSl_lo 15 5 w
  have f20_12 := pSl_lo 20 12 w
  simp only [show (2 : Int) ^ 1 = 2 from rfl, show (2 : Int) ^ 2 = 4 from rfl, show (2 : Int) ^ 3 = 8 from rfl, show (2 : Int) ^ 4 = 16 from rfl, show (2 : Int) ^ 5 = 32 from rfl, show (2 : Int) ^ 6 = 64 from rfl, show (2 : Int) ^ 7 = 128 from rfl, show (2 : Int) ^ 8 = 256 from rfl, show (2 : Int) ^ 10 = 1024 from rfl, show (2 : Int) ^ 12 = 4096 from rfl, show (2 : Int) ^ 20 = 1048576 from rfl] at f7_5 f15_5 f20_12
  unfold pTk pPt
  rw [pRes_14]
  by_cases h : pSl 0 7 w = 3 ∧ pSl 12 3 w = 5
  · rw [if_pos h]
    have ea : pAdv 14 (pSl 20 12 w) = sxt 12 (pSl 20 12 w) := pAdv_s (by decide +kernel) (by decide) (by decide) (by omega) (by show _ < (4096 : Int); omega)
    have ej : pAdj 14 (pSl 7 5 w, pSl 15 5 w, 0, pSl 20 12 w) = (pSl 7 5 w, pSl 15 5 w, 0, sxt 12 (pSl 20 12 w)) := by
      unfold pAdj
      simp only [ea]
      rw [if_neg (by decide)]
    show (pGood 14 (pAdj 14 (pSl 7 5 w, pSl 15 5 w, 0, pSl 20 12 w)) = true ↔ _) ∧ (pGood 14 (pAdj 14 (pSl 7 5 w, pSl 15 5 w, 0, pSl 20 12 w)) = true → pAdj 14 (pSl 7 5 w, pSl 15 5 w, 0, pSl 20 12 w) = _)
    rw [ej]
    refine ⟨?_, fun _ => rfl⟩
    unfold pGood
    rw [show pHas 14 0 = true from by decide +kernel, show pHas 14 1 = true from by decide +kernel, show pHas 14 2 = false from by decide +kernel, show pHas 14 3 = true from by decide +kernel]
    simp only [Bool.not_true, Bool.not_false, Bool.false_or, Bool.true_or, Bool.and_true, Bool.true_and, Bool.and_eq_true, pReg_n (show pSho 14 0 = false from by decide +kernel), pReg_n (show pSho 14 1 = false from by decide +kernel), pImm_14, p4g_0, p4g_1, p4g_2, p4g_3]
    try simp only [sxt_6, sxt_9, sxt_10, sxt_12, sxt_13, sxt_21]
    repeat' split
    all_goals (first | omega | (simp; omega) | (simp; done))
  · rw [if_neg h]
    refine ⟨⟨fun q => (nomatch q), fun q => absurd (by exact q) h⟩, fun q => (nomatch q)⟩
theorem pTk_15 (w : Int) : (pTk 15 w = true ↔ pSl 0 7 w = 35 ∧ pSl 12 3 w = 0) ∧ (pTk 15 w = true → pPt 15 w = (0, pSl 15 5 w, pSl 20 5 w, sxt 12 (pSl 7 5 w + pSl 25 7 w * 32))) := by
  have f7_5 := pSl_lo 7 5 w
  have f15_5 := pSl_lo 15 5 w
  have f20_5 := pSl_lo 20 5 w
  have f25_7 := pSl_lo 25 7 w
  simp only [show (2 : Int) ^ 1 = 2 from rfl, show (2 : Int) ^ 2 = 4 from rfl, show (2 : Int) ^ 3 = 8 from rfl, show (2 : Int) ^ 4 = 16 from rfl, show (2 : Int) ^ 5 = 32 from rfl, show (2 : Int) ^ 6 = 64 from rfl, show (2 : Int) ^ 7 = 128 from rfl, show (2 : Int) ^ 8 = 256 from rfl, show (2 : Int) ^ 10 = 1024 from rfl, show (2 : Int) ^ 12 = 4096 from rfl, show (2 : Int) ^ 20 = 1048576 from rfl] at f7_5 f15_5 f20_5 f25_7
  unfold pTk pPt
  rw [pRes_15]
  by_cases h : pSl 0 7 w = 35 ∧ pSl 12 3 w = 0
  · rw [if_pos h]
    have ea : pAdv 15 (pSl 7 5 w + pSl 25 7 w * 32) = sxt 12 (pSl 7 5 w + pSl 25 7 w * 32) := pAdv_s (by decide +kernel) (by decide) (by decide) (by omega) (by show _ < (4096 : Int); omega)
    have ej : pAdj 15 (0, pSl 15 5 w, pSl 20 5 w, pSl 7 5 w + pSl 25 7 w * 32) = (0, pSl 15 5 w, pSl 20 5 w, sxt 12 (pSl 7 5 w + pSl 25 7 w * 32)) := by
      unfold pAdj
      simp only [ea]
      rw [if_neg (by decide)]
    show (pGood 15 (pAdj 15 (0, pSl 15 5 w, pSl 20 5 w, pSl 7 5 w + pSl 25 7 w * 32)) = true ↔ _) ∧ (pGood 15 (pAdj 15 (0, pSl 15 5 w, pSl 20 5 w, pSl 7 5 w + pSl 25 7 w * 32)) = true → pAdj 15 (0, pSl 15 5 w, pSl 20 5 w, pSl 7 5 w + pSl 25 7 w * 32) = _)
    rw [ej]
    refine ⟨?_, fun _ => rfl⟩
    unfold pGood
    rw [show pHas 15 0 = false from by decide +kernel, show pHas 15 1 = true from by decide +kernel, show pHas 15 2 = true from by decide +kernel, show pHas 15 3 = true from by decide +kernel]
    simp only [Bool.not_true, Bool.not_false, Bool.false_or, Bool.true_or, Bool.and_true, Bool.true_and, Bool.and_eq_true, pReg_n (show pSho 15 1 = false from by decide +kernel), pReg_n (show pSho 15 2 = false from by decide +kernel), pImm_15, p4g_0, p4g_1, p4g_2, p4g_3]
    try simp only [sxt_6, sxt_9, sxt_10, sxt_12, sxt_13, sxt_21]
    repeat' split
    all_goals (first | omega | (simp; omega) | (simp; done))
  · rw [if_neg h]
    refine ⟨⟨fun q => (nomatch q), fun q => absurd (by exact q) h⟩, fun q => (nomatch q)⟩
theorem pTk_16 (w : Int) : (pTk 16 w = true ↔ pSl 0 7 w = 35 ∧ pSl 12 3 w = 1) ∧ (pTk 16 w = true → pPt 16 w = (0, pSl 15 5 w, pSl 20 5 w, sxt 12 (pSl 7 5 w + pSl 25 7 w * 32))) := by
  have f7_5 := pSl_lo 7 5 w
  have f15_5 := pSl_lo 15 5 w
  have f20_5 := pSl_lo 20 5 w
  have f25_7 := pSl_lo 25 7 w
  simp only [show (2 : Int) ^ 1 = 2 from rfl, show (2 : Int) ^ 2 = 4 from rfl, show (2 : Int) ^ 3 = 8 from rfl, show (2 : Int) ^ 4 = 16 from rfl, show (2 : Int) ^ 5 = 32 from rfl, show (2 : Int) ^ 6 = 64 from rfl, show (2 : Int) ^ 7 = 128 from rfl, show (2 : Int) ^ 8 = 256 from rfl, show (2 : Int) ^ 10 = 1024 from rfl, show (2 : Int) ^ 12 = 4096 from rfl, show (2 : Int) ^ 20 = 1048576 from rfl] at f7_5 f15_5 f20_5 f25_7
  unfold pTk pPt
  rw [pRes_16]
  by_cases h : pSl 0 7 w = 35 ∧ pSl 12 3 w = 1
  · rw [if_pos h]
    have ea : pAdv 16 (pSl 7 5 w + pSl 25 7 w * 32) = sxt 12 (pSl 7 5 w + pSl 25 7 w * 32) := pAdv_s (by decide +kernel) (by decide) (by decide) (by omega) (by show _ < (4096 : Int); omega)
    have ej : pAdj 16 (0, pSl 15 5 w, pSl 20 5 w, pSl 7 5 w + pSl 25 7 w * 32) = (0, pSl 15 5 w, pSl 20 5 w, sxt 12 (pSl 7 5 w + pSl 25 7 w * 32)) := by
      unfold pAdj
      simp only [ea]
      rw [if_neg (by decide)]
    show (pGood 16 (pAdj 16 (0, pSl 15 5 w, pSl 20 5 w, pSl 7 5 w + pSl 25 7 w * 32)) = true ↔ _) ∧ (pGood 16 (pAdj 16 (0, pSl 15 5 w, pSl 20 5 w, pSl 7 5 w + pSl 25 7 w * 32)) = true → pAdj 16 (0, pSl 15 5 w, pSl 20 5 w, pSl 7 5 w + pSl 25 7 w * 32) = _)
    rw [ej]
    refine ⟨?_, fun _ => rfl⟩
    unfold pGood
    rw [show pHas 16 0 = false from by decide +kernel, show pHas 16 1 = true from by decide +kernel, show pHas 16 2 = true from by decide +kernel, show pHas 16 3 = true from by decide +kernel]
    simp only [Bool.not_true, Bool.not_false, Bool.false_or, Bool.true_or, Bool.and_true, Bool.true_and, Bool.and_eq_true, pReg_n (show pSho 16 1 = false from by decide +kernel), pReg_n (show pSho 16 2 = false from by decide +kernel), pImm_16, p4g_0, p4g_1, p4g_2, p4g_3]
    try simp only [sxt_6, sxt_9, sxt_10, sxt_12, sxt_13, sxt_21]
    repeat' split
    all_goals (first | omega | (simp; omega) | (simp; done))
  · rw [if_neg h]
    refine ⟨⟨fun q => (nomatch q), fun q => absurd (by exact q) h⟩, fun q => (nomatch q)⟩
theorem pTk_17 (w : Int) : (pTk 17 w = true ↔ pSl 0 7 w = 35 ∧ pSl 12 3 w = 2) ∧ (pTk 17 w = true → pPt 17 w = (0, pSl 15 5 w, pSl 20 5 w, sxt 12 (pSl 7 5 w + pSl 25 7 w * 32))) := by
  have f7_5 := pSl_lo 7 5 w
  have f15_5 := pSl_lo 15 5 w
  have f20_5 := pSl_lo 20 5 w
  have f25_7 := pSl_lo 25 7 w
  simp only [show (2 : Int) ^ 1 = 2 from rfl, show (2 : Int) ^ 2 = 4 from rfl, show (2 : Int) ^ 3 = 8 from rfl, show (2 : Int) ^ 4 = 16 from rfl, show (2 : Int) ^ 5 = 32 from rfl, show (2 : Int) ^ 6 = 64 from rfl, show (2 : Int) ^ 7 = 128 from rfl, show (2 : Int) ^ 8 = 256 from rfl, show (2 : Int) ^ 10 = 1024 from rfl, show (2 : Int) ^ 12 = 4096 from rfl, show (2 : Int) ^ 20 = 1048576 from rfl] at f7_5 f15_5 f20_5 f25_7
  unfold pTk pPt
  rw [pRes_17]
  by_cases h : pSl 0 7 w = 35 ∧ pSl 12 3 w = 2
  · rw [if_pos h]
    have ea : pAdv 17 (pSl 7 5 w + pSl 25 7 w * 32) = sxt 12 (pSl 7 5 w + pSl 25 7 w * 32) := pAdv_s (by decide +kernel) (by decide) (by decide) (by omega) (by show _ < (4096 : Int); omega)
    have ej : pAdj 17 (0, pSl 15 5 w, pSl 20 5 w, pSl 7 5 w + pSl 25 7 w * 32) = (0, pSl 15 5 w, pSl 20 5 w, sxt 12 (pSl 7 5 w + pSl 25 7 w * 32)) := by
      unfold pAdj
      simp only [ea]
      rw [if_neg (by decide)]
    show (pGood 17 (pAdj 17 (0, pSl 15 5 w, pSl 20 5 w, pSl 7 5 w + pSl 25 7 w * 32)) = true ↔ _) ∧ (pGood 17 (pAdj 17 (0, pSl 15 5 w, pSl 20 5 w, pSl 7 5 w + pSl 25 7 w * 32)) = true → pAdj 17 (0, pSl 15 5 w, pSl 20 5 w, pSl 7 5 w + pSl 25 7 w * 32) = _)
    rw [ej]
    refine ⟨?_, fun _ => rfl⟩
    unfold pGood
    rw [show pHas 17 0 = false from by decide +kernel, show pHas 17 1 = true from by decide +kernel, show pHas 17 2 = true from by decide +kernel, show pHas 17 3 = true from by decide +kernel]
    simp only [Bool.not_true, Bool.not_false, Bool.false_or, Bool.true_or, Bool.and_true, Bool.true_and, Bool.and_eq_true, pReg_n (show pSho 17 1 = false from by decide +kernel), pReg_n (show pSho 17 2 = false from by decide +kernel), pImm_17, p4g_0, p4g_1, p4g_2, p4g_3]
    try simp only [sxt_6, sxt_9, sxt_10, sxt_12, sxt_13, sxt_21]
    repeat' split
    all_goals (first | omega | (simp; omega) | (simp; done))
  · rw [if_neg h]
    refine ⟨⟨fun q => (nomatch q), fun q => absurd (by exact q) h⟩, fun q => (nomatch q)⟩
theorem pTk_18 (w : Int) : (pTk 18 w = true ↔ pSl 0 7 w = 19 ∧ pSl 12 3 w = 0) ∧ (pTk 18 w = true → pPt 18 w = (pSl 7 5 w, pSl 15 5 w, 0, sxt 12 (pSl 20 12 w))) := by
  have f7_5 := pSl_lo 7 5 w
  have f15_5 := pSl_lo 15 5 w
  have f20_12 := pSl_lo 20 12 w
  simp only [show (2 : Int) ^ 1 = 2 from rfl, show (2 : Int) ^ 2 = 4 from rfl, show (2 : Int) ^ 3 = 8 from rfl, show (2 : Int) ^ 4 = 16 from rfl, show (2 : Int) ^ 5 = 32 from rfl, show (2 : Int) ^ 6 = 64 from rfl, show (2 : Int) ^ 7 = 128 from rfl, show (2 : Int) ^ 8 = 256 from rfl, show (2 : Int) ^ 10 = 1024 from rfl, show (2 : Int) ^ 12 = 4096 from rfl, show (2 : Int) ^ 20 = 1048576 from rfl] at f7_5 f15_5 f20_12
  unfold pTk pPt
  rw [pRes_18]
  by_cases h : pSl 0 7 w = 19 ∧ pSl 12 3 w = 0
  · rw [if_pos h]
    have ea : pAdv 18 (pSl 20 12 w) = sxt 12 (pSl 20 12 w) := pAdv_s (by decide +kernel) (by decide) (by decide) (by omega) (by show _ < (4096 : Int); omega)
    have ej : pAdj 18 (pSl 7 5 w, pSl 15 5 w, 0, pSl 20 12 w) = (pSl 7 5 w, pSl 15 5 w, 0, sxt 12 (pSl 20 12 w)) := by
      unfold pAdj
      simp only [ea]
      rw [if_neg (by decide)]
    show (pGood 18 (pAdj 18 (pSl 7 5 w, pSl 15 5 w, 0, pSl 20 12 w)) = true ↔ _) ∧ (pGood 18 (pAdj 18 (pSl 7 5 w, pSl 15 5 w, 0, pSl 20 12 w)) = true → pAdj 18 (pSl 7 5 w, pSl 15 5 w, 0, pSl 20 12 w) = _)
    rw [ej]
    refine ⟨?_, fun _ => rfl⟩
    unfold pGood
    rw [show pHas 18 0 = true from by decide +kernel, show pHas 18 1 = true from by decide +kernel, show pHas 18 2 = false from by decide +kernel, show pHas 18 3 = true from by decide +kernel]
    simp only [Bool.not_true, Bool.not_false, Bool.false_or, Bool.true_or, Bool.and_true, Bool.true_and, Bool.and_eq_true, pReg_n (show pSho 18 0 = false from by decide +kernel), pReg_n (show pSho 18 1 = false from by decide +kernel), pImm_18, p4g_0, p4g_1, p4g_2, p4g_3]
    try simp only [sxt_6, sxt_9, sxt_10, sxt_12, sxt_13, sxt_21]
    repeat' split
    all_goals (first | omega | (simp; omega) | (simp; done))
  · rw [if_neg h]
    refine ⟨⟨fun q => (nomatch q), fun q => absurd (by exact q) h⟩, fun q => (nomatch q)⟩
theorem pTk_19 (w : Int) : (pTk 19 w = true ↔ pSl 0 7 w = 19 ∧ pSl 12 3 w = 2) ∧ (pTk 19 w = true → pPt 19 w = (pSl 7 5 w, pSl 15 5 w, 0, sxt 12 (pSl 20 12 w))) := by
  have f7_5 := pSl_lo 7 5 w
  have f15_5 := pSl_lo 15 5 w
  have f20_12 := pSl_lo 20 12 w
  simp only [show (2 : Int) ^ 1 = 2 from rfl, show (2 : Int) ^ 2 = 4 from rfl, show (2 : Int) ^ 3 = 8 from rfl, show (2 : Int) ^ 4 = 16 from rfl, show (2 : Int) ^ 5 = 32 from rfl, show (2 : Int) ^ 6 = 64 from rfl, show (2 : Int) ^ 7 = 128 from rfl, show (2 : Int) ^ 8 = 256 from rfl, show (2 : Int) ^ 10 = 1024 from rfl, show (2 : Int) ^ 12 = 4096 from rfl, show (2 : Int) ^ 20 = 1048576 from rfl] at f7_5 f15_5 f20_12
  unfold pTk pPt
  rw [pRes_19]
  by_cases h : pSl 0 7 w = 19 ∧ pSl 12 3 w = 2
  · rw [if_pos h]
    have ea : pAdv 19 (pSl 20 12 w) = sxt 12 (pSl 20 12 w) := pAdv_s (by decide +kernel) (by decide) (by decide) (by omega) (by show _ < (4096 : Int); omega)
    have ej : pAdj 19 (pSl 7 5 w, pSl 15 5 w, 0, pSl 20 12 w) = (pSl 7 5 w, pSl 15 5 w, 0, sxt 12 (pSl 20 12 w)) := by
      unfold pAdj
      simp only [ea]
      rw [if_neg (by decide)]
    show (pGood 19 (pAdj 19 (pSl 7 5 w, pSl 15 5 w, 0, pSl 20 12 w)) = true ↔ _) ∧ (pGood 19 (pAdj 19 (pSl 7 5 w, pSl 15 5 w, 0, pSl 20 12 w)) = true → pAdj 19 (pSl 7 5 w, pSl 15 5 w, 0, pSl 20 12 w) = _)
    rw [ej]
    refine ⟨?_, fun _ => rfl⟩
    unfold pGood
    rw [show pHas 19 0 = true from by decide +kernel, show pHas 19 1 = true from by decide +kernel, show pHas 19 2 = false from by decide +kernel, show pHas 19 3 = true from by decide +kernel]
    simp only [Bool.not_true, Bool.not_false, Bool.false_or, Bool.true_or, Bool.and_true, Bool.true_and, Bool.and_eq_true, pReg_n (show pSho 19 0 = false from by decide +kernel), pReg_n (show pSho 19 1 = false from by decide +kernel), pImm_19, p4g_0, p4g_1, p4g_2, p4g_3]
    try simp only [sxt_6, sxt_9, sxt_10, sxt_12, sxt_13, sxt_21]
    repeat' split
    all_goals (first | omega | (simp; omega) | (simp; done))
  · rw [if_neg h]
    refine ⟨⟨fun q => (nomatch q), fun q => absurd (by exact q) h⟩, fun q => (nomatch q)⟩
theorem pTk_20 (w : Int) : (pTk 20 w = true ↔ pSl 0 7 w = 19 ∧ pSl 12 3 w = 3) ∧ (pTk 20 w = true → pPt 20 w = (pSl 7 5 w, pSl 15 5 w, 0, sxt 12 (pSl 20 12 w))) := by
  have f7_5 := pSl_lo 7 5 w
  have f15_5 := pSl_lo 15 5 w
  have f20_12 := pSl_lo 20 12 w
  simp only [show (2 : Int) ^ 1 = 2 from rfl, show (2 : Int) ^ 2 = 4 from rfl, show (2 : Int) ^ 3 = 8 from rfl, show (2 : Int) ^ 4 = 16 from rfl, show (2 : Int) ^ 5 = 32 from rfl, show (2 : Int) ^ 6 = 64 from rfl, show (2 : Int) ^ 7 = 128 from rfl, show (2 : Int) ^ 8 = 256 from rfl, show (2 : Int) ^ 10 = 1024 from rfl, show (2 : Int) ^ 12 = 4096 from rfl, show (2 : Int) ^ 20 = 1048576 from rfl] at f7_5 f15_5 f20_12
  unfold pTk pPt
  rw [pRes_20]
  by_cases h : pSl 0 7 w = 19 ∧ pSl 12 3 w = 3
  · rw [if_pos h]
    have ea : pAdv 20 (pSl 20 12 w) = sxt 12 (pSl 20 12 w) := pAdv_s (by decide +kernel) (by decide) (by decide) (by omega) (by show _ < (4096 : Int); omega)
    have ej : pAdj 20 (pSl 7 5 w, pSl 15 5 w, 0, pSl 20 12 w) = (pSl 7 5 w, pSl 15 5 w, 0, sxt 12 (pSl 20 12 w)) := by
      unfold pAdj
      simp only [ea]
      rw [if_neg (by decide)]
    show (pGood 20 (pAdj 20 (pSl 7 5 w, pSl 15 5 w, 0, pSl 20 12 w)) = true ↔ _) ∧ (pGood 20 (pAdj 20 (pSl 7 5 w, pSl 15 5 w, 0, pSl 20 12 w)) = true → pAdj 20 (pSl 7 5 w, pSl 15 5 w, 0, pSl 20 12 w) = _)
    rw [ej]
    refine ⟨?_, fun _ => rfl⟩
    unfold pGood
    rw [show pHas 20 0 = true from by decide +kernel, show pHas 20 1 = true from by decide +kernel, show pHas 20 2 = false from by decide +kernel, show pHas 20 3 = true from by decide +kernel]
    simp only [Bool.not_true, Bool.not_false, Bool.false_or, Bool.true_or, Bool.and_true, Bool.true_and, Bool.and_eq_true, pReg_n (show pSho 20 0 = false from by decide +kernel), pReg_n (show pSho 20 1 = false from by decide +kernel), pImm_20, p4g_0, p4g_1, p4g_2, p4g_3]
    try simp only [sxt_6, sxt_9, sxt_10, sxt_12, sxt_13, sxt_21]
    repeat' split
    all_goals (first | omega | (simp; omega) | (simp; done))
  · rw [if_neg h]
    refine ⟨⟨fun q => (nomatch q), fun q => absurd (by exact q) h⟩, fun q => (nomatch q)⟩
theorem pTk_21 (w : Int) : (pTk 21 w = true ↔ pSl 0 7 w = 19 ∧ pSl 12 3 w = 4) ∧ (pTk 21 w = true → pPt 21 w = (pSl 7 5 w, pSl 15 5 w, 0, sxt 12 (pSl 20 12 w))) := by
  have f7_5 := pSl_lo 7 5 w
  have f15_5 := pSl_lo 15 5 w
  have f20_12 := pSl_lo 20 12 w
  simp only [show (2 : Int) ^ 1 = 2 from rfl, show (2 : Int) ^ 2 = 4 from rfl, show (2 : Int) ^ 3 = 8 from rfl, show (2 : Int) ^ 4 = 16 from rfl, show (2 : Int) ^ 5 = 32 from rfl, show (2 : Int) ^ 6 = 64 from rfl, show (2 : Int) ^ 7 = 128 from rfl, show (2 : Int) ^ 8 = 256 from rfl, show (2 : Int) ^ 10 = 1024 from rfl, show (2 : Int) ^ 12 = 4096 from rfl, show (2 : Int) ^ 20 = 1048576 from rfl] at f7_5 f15_5 f20_12
  unfold pTk pPt
  rw [pRes_21]
  by_cases h : pSl 0 7 w = 19 ∧ pSl 12 3 w = 4
  · rw [if_pos h]
    have ea : pAdv 21 (pSl 20 12 w) = sxt 12 (pSl 20 12 w) := pAdv_s (by decide +kernel) (by decide) (by decide) (by omega) (by show _ < (4096 : Int); omega)
    have ej : pAdj 21 (pSl 7 5 w, pSl 15 5 w, 0, pSl 20 12 w) = (pSl 7 5 w, pSl 15 5 w, 0, sxt 12 (pSl 20 12 w)) := by
      unfold pAdj
      simp only [ea]
      rw [if_neg (by decide)]
    show (pGood 21 (pAdj 21 (pSl 7 5 w, pSl 15 5 w, 0, pSl 20 12 w)) = true ↔ _) ∧ (pGood 21 (pAdj 21 (pSl 7 5 w, pSl 15 5 w, 0, pSl 20 12 w)) = true → pAdj 21 (pSl 7 5 w, pSl 15 5 w, 0, pSl 20 12 w) = _)
    rw [ej]
    refine ⟨?_, fun _ => rfl⟩
    unfold pGood
    rw [show pHas 21 0 = true from by decide +kernel, show pHas 21 1 = true from by decide +kernel, show pHas 21 2 = false from by decide +kernel, show pHas 21 3 = true from by decide +kernel]
    simp only [Bool.not_true, Bool.not_false, Bool.false_or, Bool.true_or, Bool.and_true, Bool.true_and, Bool.and_eq_true, pReg_n (show pSho 21 0 = false from by decide +kernel), pReg_n (show pSho 21 1 = false from by decide +kernel), pImm_21, p4g_0, p4g_1, p4g_2, p4g_3]
    try simp only [sxt_6, sxt_9, sxt_10, sxt_12, sxt_13, sxt_21]
    repeat' split
    all_goals (first | omega | (simp; omega) | (simp; done))
  · rw [if_neg h]
    refine ⟨⟨fun q => (nomatch q), fun q => absurd (by exact q) h⟩, fun q => (nomatch q)⟩
theorem pTk_22 (w : Int) : (pTk 22 w = true ↔ pSl 0 7 w = 19 ∧ pSl 12 3 w = 6) ∧ (pTk 22 w = true → pPt 22 w = (pSl 7 5 w, pSl 15 5 w, 0, sxt 12 (pSl 20 12 w))) := by
  have f7_5 := pSl_lo 7 5 w
  have f15_5 := pSl_lo 15 5 w
  have f20_12 := pSl_lo 20 12 w
  simp only [show (2 : Int) ^ 1 = 2 from rfl, show (2 : Int) ^ 2 = 4 from rfl, show (2 : Int) ^ 3 = 8 from rfl, show (2 : Int) ^ 4 = 16 from rfl, show (2 : Int) ^ 5 = 32 from rfl, show (2 : Int) ^ 6 = 64 from rfl, show (2 : Int) ^ 7 = 128 from rfl, show (2 : Int) ^ 8 = 256 from rfl, show (2 : Int) ^ 10 = 1024 from rfl, show (2 : Int) ^ 12 = 4096 from rfl, show (2 : Int) ^ 20 = 1048576 from rfl] at f7_5 f15_5 f20_12
  unfold pTk pPt
  rw [pRes_22]
  by_cases h : pSl 0 7 w = 19 ∧ pSl 12 3 w = 6
  · rw [if_pos h]
    have ea : pAdv 22 (pSl 20 12 w) = sxt 12 (pSl 20 12 w) := pAdv_s (by decide +kernel) (by decide) (by decide) (by omega) (by show _ < (4096 : Int); omega)
    have ej : pAdj 22 (pSl 7 5 w, pSl 15 5 w, 0, pSl 20 12 w) = (pSl 7 5 w, pSl 15 5 w, 0, sxt 12 (pSl 20 12 w)) := by
      unfold pAdj
      simp only [ea]
      rw [if_neg (by decide)]
    show (pGood 22 (pAdj 22 (pSl 7 5 w, pSl 15 5 w, 0, pSl 20 12 w)) = true ↔ _) ∧ (pGood 22 (pAdj 22 (pSl 7 5 w, pSl 15 5 w, 0, pSl 20 12 w)) = true → pAdj 22 (pSl 7 5 w, pSl 15 5 w, 0, pSl 20 12 w) = _)
    rw [ej]
    refine ⟨?_, fun _ => rfl⟩
    unfold pGood
    rw [show pHas 22 0 = true from by decide +kernel, show pHas 22 1 = true from by decide +kernel, show pHas 22 2 = false from by decide +kernel, show pHas 22 3 = true from by decide +kernel]
    simp only [Bool.not_true, Bool.not_false, Bool.false_or, Bool.true_or, Bool.and_true, Bool.true_and, Bool.and_eq_true, pReg_n (show pSho 22 0 = false from by decide +kernel), pReg_n (show pSho 22 1 = false from by decide +kernel), pImm_22, p4g_0, p4g_1, p4g_2, p4g_3]
    try simp only [sxt_6, sxt_9, sxt_10, sxt_12, sxt_13, sxt_21]
    repeat' split
    all_goals (first | omega | (simp; omega) | (simp; done))
  · rw [if_neg h]
    refine ⟨⟨fun q => (nomatch q), fun q => absurd (by exact q) h⟩, fun q => (nomatch q)⟩
theorem pTk_23 (w : Int) : (pTk 23 w = true ↔ pSl 0 7 w = 19 ∧ pSl 12 3 w = 7) ∧ (pTk 23 w = true → pPt 23 w = (pSl 7 5 w, pSl 15 5 w, 0, sxt 12 (pSl 20 12 w))) := by
  have f7_5 := pSl_lo 7 5 w
  have f15_5 := pSl_lo 15 5 w
  have f20_12 := pSl_lo 20 12 w
  simp only [show (2 : Int) ^ 1 = 2 from rfl, show (2 : Int) ^ 2 = 4 from rfl, show (2 : Int) ^ 3 = 8 from rfl, show (2 : Int) ^ 4 = 16 from rfl, show (2 : Int) ^ 5 = 32 from rfl, show (2 : Int) ^ 6 = 64 from rfl, show (2 : Int) ^ 7 = 128 from rfl, show (2 : Int) ^ 8 = 256 from rfl, show (2 : Int) ^ 10 = 1024 from rfl, show (2 : Int) ^ 12 = 4096 from rfl, show (2 : Int) ^ 20 = 1048576 from rfl] at f7_5 f15_5 f20_12
  unfold pTk pPt
  rw [pRes_23]
  by_cases h : pSl 0 7 w = 19 ∧ pSl 12 3 w = 7
  · rw [if_pos h]
    have ea : pAdv 23 (pSl 20 12 w) = sxt 12 (pSl 20 12 w) := pAdv_s (by decide +kernel) (by decide) (by decide) (by omega) (by show _ < (4096 : Int); omega)
    have ej : pAdj 23 (pSl 7 5 w, pSl 15 5 w, 0, pSl 20 12 w) = (pSl 7 5 w, pSl 15 5 w, 0, sxt 12 (pSl 20 12 w)) := by
      unfold pAdj
      simp only [ea]
      rw [if_neg (by decide)]
    show (pGood 23 (pAdj 23 (pSl 7 5 w, pSl 15 5 w, 0, pSl 20 12 w)) = true ↔ _) ∧ (pGood 23 (pAdj 23 (pSl 7 5 w, pSl 15 5 w, 0, pSl 20 12 w)) = true → pAdj 23 (pSl 7 5 w, pSl 15 5 w, 0, pSl 20 12 w) = _)
    rw [ej]
    refine ⟨?_, fun _ => rfl⟩
    unfold pGood
    rw [show pHas 23 0 = true from by decide +kernel, show pHas 23 1 = true from by decide +kernel, show pHas 23 2 = false from by decide +kernel, show pHas 23 3 = true from by decide +kernel]
    simp only [Bool.not_true, Bool.not_false, Bool.false_or, Bool.true_or, Bool.and_true, Bool.true_and, Bool.and_eq_true, pReg_n (show pSho 23 0 = false from by decide +kernel), pReg_n (show pSho 23 1 = false from by decide +kernel), pImm_23, p4g_0, p4g_1, p4g_2, p4g_3]
    try simp only [sxt_6, sxt_9, sxt_10, sxt_12, sxt_13, sxt_21]
    repeat' split
    all_goals (first | omega | (simp; omega) | (simp; done))
  · rw [if_neg h]
    refine ⟨⟨fun q => (nomatch q), fun q => absurd (by exact q) h⟩, fun q => (nomatch q)⟩
theorem pTk_24 (w : Int) : (pTk 24 w = true ↔ pSl 0 7 w = 19 ∧ pSl 12 3 w = 1 ∧ pSl 25 7 w = 0) ∧ (pTk 24 w = true → pPt 24 w = (pSl 7 5 w, pSl 15 5 w, 0, pSl 20 5 w)) := by
  have f7_5 := pSl_lo 7 5 w
  have f15_5 := pSl_lo 15 5 w
  have f20_5 := pSl_lo 20 5 w
  simp only [show (2 : Int) ^ 1 = 2 from rfl, show (2 : Int) ^ 2 = 4 from rfl, show (2 : Int) ^ 3 = 8 from rfl, show (2 : Int) ^ 4 = 16 from rfl, show (2 : Int) ^ 5 = 32 from rfl, show (2 : Int) ^ 6 = 64 from rfl, show (2 : Int) ^ 7 = 128 from rfl, show (2 : Int) ^ 8 = 256 from rfl, show (2 : Int) ^ 10 = 1024 from rfl, show (2 : Int) ^ 12 = 4096 from rfl, show (2 : Int) ^ 20 = 1048576 from rfl] at f7_5 f15_5 f20_5
  unfold pTk pPt
  rw [pRes_24]
  by_cases h : pSl 0 7 w = 19 ∧ pSl 12 3 w = 1 ∧ pSl 25 7 w = 0
  · rw [if_pos h]
    have ea : pAdv 24 (pSl 20 5 w) = pSl 20 5 w := pAdv_u (by decide +kernel) _
    have ej : pAdj 24 (pSl 7 5 w, pSl 15 5 w, 0, pSl 20 5 w) = (pSl 7 5 w, pSl 15 5 w, 0, pSl 20 5 w) := by
      unfold pAdj
      simp only [ea]
      rw [if_neg (by decide)]
    show (pGood 24 (pAdj 24 (pSl 7 5 w, pSl 15 5 w, 0, pSl 20 5 w)) = true ↔ _) ∧ (pGood 24 (pAdj 24 (pSl 7 5 w, pSl 15 5 w, 0, pSl 20 5 w)) = true → pAdj 24 (pSl 7 5 w, pSl 15 5 w, 0, pSl 20 5 w) = _)
    rw [ej]
    refine ⟨?_, fun _ => rfl⟩
    unfold pGood
    rw [show pHas 24 0 = true from by decide +kernel, show pHas 24 1 = true from by decide +kernel, show pHas 24 2 = false from by decide +kernel, show pHas 24 3 = true from by decide +kernel]
    simp only [Bool.not_true, Bool.not_false, Bool.false_or, Bool.true_or, Bool.and_true, Bool.true_and, Bool.and_eq_true, pReg_n (show pSho 24 0 = false from by decide +kernel), pReg_n (show pSho 24 1 = false from by decide +kernel), pImm_24, p4g_0, p4g_1, p4g_2, p4g_3]
    try simp only [sxt_6, sxt_9, sxt_10, sxt_12, sxt_13, sxt_21]
    repeat' split
    all_goals (first | omega | (simp; omega) | (simp; done))
  · rw [if_neg h]
    refine ⟨⟨fun q => (nomatch q), fun q => absurd (by exact q) h⟩, fun q => (nomatch q)⟩
theorem pTk_25 (w : Int) : (pTk 25 w = true ↔ pSl 0 7 w = 19 ∧ pSl 12 3 w = 5 ∧ pSl 25 7 w = 0) ∧ (pTk 25 w = true → pPt 25 w = (pSl 7 5 w, pSl 15 5 w, 0, pSl 20 5 w)) := by
  have f7_5 := pSl_lo 7 5 w
  have f15_5 := pSl_lo 15 5 w
  have f20_5 := pSl_lo 20 5 w
  simp only [show (2 : Int) ^ 1 = 2 from rfl, show (2 : Int) ^ 2 = 4 from rfl, show (2 : Int) ^ 3 = 8 from rfl, show (2 : Int) ^ 4 = 16 from rfl, show (2 : Int) ^ 5 = 32 from rfl, show (2 : Int) ^ 6 = 64 from rfl, show (2 : Int) ^ 7 = 128 from rfl, show (2 : Int) ^ 8 = 256 from rfl, show (2 : Int) ^ 10 = 1024 from rfl, show (2 : Int) ^ 12 = 4096 from rfl, show (2 : Int) ^ 20 = 1048576 from rfl] at f7_5 f15_5 f20_5
  unfold pTk pPt
  rw [pRes_25]
  by_cases h : pSl 0 7 w = 19 ∧ pSl 12 3 w = 5 ∧ pSl 25 7 w = 0
  · rw [if_pos h]
    have ea : pAdv 25 (pSl 20 5 w) = pSl 20 5 w := pAdv_u (by decide +kernel) _
    have ej : pAdj 25 (pSl 7 5 w, pSl 15 5 w, 0, pSl 20 5 w) = (pSl 7 5 w, pSl 15 5 w, 0, pSl 20 5 w) := by
      unfold pAdj
      simp only [ea]
      rw [if_neg (by decide)]
    show (pGood 25 (pAdj 25 (pSl 7 5 w, pSl 15 5 w, 0, pSl 20 5 w)) = true ↔ _) ∧ (pGood 25 (pAdj 25 (pSl 7 5 w, pSl 15 5 w, 0, pSl 20 5 w)) = true → pAdj 25 (pSl 7 5 w, pSl 15 5 w, 0, pSl 20 5 w) = _)
    rw [ej]
    refine ⟨?_, fun _ => rfl⟩
    unfold pGood
    rw [show pHas 25 0 = true from by decide +kernel, show pHas 25 1 = true from by decide +kernel, show pHas 25 2 = false from by decide +kernel, show pHas 25 3 = true from by decide +kernel]
    simp only [Bool.not_true, Bool.not_false, Bool.false_or, Bool.true_or, Bool.and_true, Bool.true_and, Bool.and_eq_true, pReg_n (show pSho 25 0 = false from by decide +kernel), pReg_n (show pSho 25 1 = false from by decide +kernel), pImm_25, p4g_0, p4g_1, p4g_2, p4g_3]
    try simp only [sxt_6, sxt_9, sxt_10, sxt_12, sxt_13, sxt_21]
    repeat' split
    all_goals (first | omega | (simp; omega) | (simp; done))
  · rw [if_neg h]
    refine ⟨⟨fun q => (nomatch q), fun q => absurd (by exact q) h⟩, fun q => (nomatch q)⟩
theorem pTk_26 (w : Int) : (pTk 26 w = true ↔ pSl 0 7 w = 19 ∧ pSl 12 3 w = 5 ∧ pSl 25 7 w = 32) ∧ (pTk 26 w = true → pPt 26 w = (pSl 7 5 w, pSl 15 5 w, 0, pSl 20 5 w)) := by
  have f7_5 := pSl_lo 7 5 w
  have f15_5 := pSl_lo 15 5 w
  have f20_5 := pSl_lo 20 5 w
  simp only [show (2 : Int) ^ 1 = 2 from rfl, show (2 : Int) ^ 2 = 4 from rfl, show (2 : Int) ^ 3 = 8 from rfl, show (2 : Int) ^ 4 = 16 from rfl, show (2 : Int) ^ 5 = 32 from rfl, show (2 : Int) ^ 6 = 64 from rfl, show (2 : Int) ^ 7 = 128 from rfl, show (2 : Int) ^ 8 = 256 from rfl, show (2 : Int) ^ 10 = 1024 from rfl, show (2 : Int) ^ 12 = 4096 from rfl, show (2 : Int) ^ 20 = 1048576 from rfl] at f7_5 f15_5 f20_5
  unfold pTk pPt
  rw [pRes_26]
  by_cases h : pSl 0 7 w = 19 ∧ pSl 12 3 w = 5 ∧ pSl 25 7 w = 32
  · rw [if_pos h]
    have ea : pAdv 26 (pSl 20 5 w) = pSl 20 5 w := pAdv_u (by decide +kernel) _
    have ej : pAdj 26 (pSl 7 5 w, pSl 15 5 w, 0, pSl 20 5 w) = (pSl 7 5 w, pSl 15 5 w, 0, pSl 20 5 w) := by
      unfold pAdj
      simp only [ea]
      rw [if_neg (by decide)]
    show (pGood 26 (pAdj 26 (pSl 7 5 w, pSl 15 5 w, 0, pSl 20 5 w)) = true ↔ _) ∧ (pGood 26 (pAdj 26 (pSl 7 5 w, pSl 15 5 w, 0, pSl 20 5 w)) = true → pAdj 26 (pSl 7 5 w, pSl 15 5 w, 0, pSl 20 5 w) = _)
    rw [ej]
    refine ⟨?_, fun _ => rfl⟩
    unfold pGood
    rw [show pHas 26 0 = true from by decide +kernel, show pHas 26 1 = true from by decide +kernel, show pHas 26 2 = false from by decide +kernel, show pHas 26 3 = true from by decide +kernel]
    simp only [Bool.not_true, Bool.not_false, Bool.false_or, Bool.true_or, Bool.and_true, Bool.true_and, Bool.and_eq_true, pReg_n (show pSho 26 0 = false from by decide +kernel), pReg_n (show pSho 26 1 = false from by decide +kernel), pImm_26, p4g_0, p4g_1, p4g_2, p4g_3]
    try simp only [sxt_6, sxt_9, sxt_10, sxt_12, sxt_13, sxt_21]
    repeat' split
    all_goals (first | omega | (simp; omega) | (simp; done))
  · rw [if_neg h]
    refine ⟨⟨fun q => (nomatch q), fun q => absurd (by exact q) h⟩, fun q => (nomatch q)⟩
theorem pTk_27 (w : Int) : (pTk 27 w = true ↔ pSl 0 7 w = 51 ∧ pSl 12 3 w = 0 ∧ pSl 25 7 w = 0) ∧ (pTk 27 w = true → pPt 27 w = (pSl 7 5 w, pSl 15 5 w, pSl 20 5 w, 0)) := by
  have f7_5 := pSl_lo 7 5 w
  have f15_5 := pSl_lo 15 5 w
  have f20_5 := pSl_lo 20 5 w
  simp only [show (2 : Int) ^ 1 = 2 from rfl, show (2 : Int) ^ 2 = 4 from rfl, show (2 : Int) ^ 3 = 8 from rfl, show (2 : Int) ^ 4 = 16 from rfl, show (2 : Int) ^ 5 = 32 from rfl, show (2 : Int) ^ 6 = 64 from rfl, show (2 : Int) ^ 7 = 128 from rfl, show (2 : Int) ^ 8 = 256 from rfl, show (2 : Int) ^ 10 = 1024 from rfl, show (2 : Int) ^ 12 = 4096 from rfl, show (2 : Int) ^ 20 = 1048576 from rfl] at f7_5 f15_5 f20_5
  unfold pTk pPt
  rw [pRes_27]
  by_cases h : pSl 0 7 w = 51 ∧ pSl 12 3 w = 0 ∧ pSl 25 7 w = 0
  · rw [if_pos h]
    have ea : pAdv 27 0 = 0 := by rw [pAdv_s (n := 12) (by decide +kernel) (by decide) (by decide) (by decide) (by decide), sxt_12]; rfl
    have ej : pAdj 27 (pSl 7 5 w, pSl 15 5 w, pSl 20 5 w, 0) = (pSl 7 5 w, pSl 15 5 w, pSl 20 5 w, 0) := by
      unfold pAdj
      simp only [ea]
      rw [if_neg (by decide)]
    show (pGood 27 (pAdj 27 (pSl 7 5 w, pSl 15 5 w, pSl 20 5 w, 0)) = true ↔ _) ∧ (pGood 27 (pAdj 27 (pSl 7 5 w, pSl 15 5 w, pSl 20 5 w, 0)) = true → pAdj 27 (pSl 7 5 w, pSl 15 5 w, pSl 20 5 w, 0) = _)
    rw [ej]
    refine ⟨?_, fun _ => rfl⟩
    unfold pGood
    rw [show pHas 27 0 = true from by decide +kernel, show pHas 27 1 = true from by decide +kernel, show pHas 27 2 = true from by decide +kernel, show pHas 27 3 = false from by decide +kernel]
    simp only [Bool.not_true, Bool.not_false, Bool.false_or, Bool.true_or, Bool.and_true, Bool.true_and, Bool.and_eq_true, pReg_n (show pSho 27 0 = false from by decide +kernel), pReg_n (show pSho 27 1 = false from by decide +kernel), pReg_n (show pSho 27 2 = false from by decide +kernel), p4g_0, p4g_1, p4g_2, p4g_3]
    try simp only [sxt_6, sxt_9, sxt_10, sxt_12, sxt_13, sxt_21]
    repeat' split
    all_goals (first | omega | (simp; omega) | (simp; done))
  · rw [if_neg h]
    refine ⟨⟨fun q => (nomatch q), fun q => absurd (by exact q) h⟩, fun q => (nomatch q)⟩
theorem pTk_28 (w : Int) : (pTk 28 w = true ↔ pSl 0 7 w = 51 ∧ pSl 12 3 w = 0 ∧ pSl 25 7 w = 32) ∧ (pTk 28 w = true → pPt 28 w = (pSl 7 5 w, pSl 15 5 w, pSl 20 5 w, 0)) := by
  have f7_5 := pSl_lo 7 5 w
  have f15_5 := pSl_lo 15 5 w
  have f20_5 := pSl_lo 20 5 w
  simp only [show (2 : Int) ^ 1 = 2 from rfl, show (2 : Int) ^ 2 = 4 from rfl, show (2 : Int) ^ 3 = 8 from rfl, show (2 : Int) ^ 4 = 16 from rfl, show (2 : Int) ^ 5 = 32 from rfl, show (2 : Int) ^ 6 = 64 from rfl, show (2 : Int) ^ 7 = 128 from rfl, show (2 : Int) ^ 8 = 256 from rfl, show (2 : Int) ^ 10 = 1024 from rfl, show (2 : Int) ^ 12 = 4096 from rfl, show (2 : Int) ^ 20 = 1048576 from rfl] at f7_5 f15_5 f20_5
  unfold pTk pPt
  rw [pRes_28]
  by_cases h : pSl 0 7 w = 51 ∧ pSl 12 3 w = 0 ∧ pSl 25 7 w = 32
  · rw [if_pos h]
    have ea : pAdv 28 0 = 0 := by rw [pAdv_s (n := 12) (by decide +kernel) (by decide) (by decide) (by decide) (by decide), sxt_12]; rfl
    have ej : pAdj 28 (pSl 7 5 w, pSl 15 5 w, pSl 20 5 w, 0) = (pSl 7 5 w, pSl 15 5 w, pSl 20 5 w, 0) := by
      unfold pAdj
      simp only [ea]
      rw [if_neg (by decide)]
    show (pGood 28 (pAdj 28 (pSl 7 5 w, pSl 15 5 w, pSl 20 5 w, 0)) = true ↔ _) ∧ (pGood 28 (pAdj 28 (pSl 7 5 w, pSl 15 5 w, pSl 20 5 w, 0)) = true → pAdj 28 (pSl 7 5 w, pSl 15 5 w, pSl 20 5 w, 0) = _)
    rw [ej]
    refine ⟨?_, fun _ => rfl⟩
    unfold pGood
    rw [show pHas 28 0 = true from by decide +kernel, show pHas 28 1 = true from by decide +kernel, show pHas 28 2 = true from by decide +kernel, show pHas 28 3 = false from by decide +kernel]
    simp only [Bool.not_true, Bool.not_false, Bool.false_or, Bool.true_or, Bool.and_true, Bool.true_and, Bool.and_eq_true, pReg_n (show pSho 28 0 = false from by decide +kernel), pReg_n (show pSho 28 1 = false from by decide +kernel), pReg_n (show pSho 28 2 = false from by decide +kernel), p4g_0, p4g_1, p4g_2, p4g_3]
    try simp only [sxt_6, sxt_9, sxt_10, sxt_12, sxt_13, sxt_21]
    repeat' split
    all_goals (first | omega | (simp; omega) | (simp; done))
  · rw [if_neg h]
    refine ⟨⟨fun q => (nomatch q), fun q => absurd (by exact q) h⟩, fun q => (nomatch q)⟩
theorem pTk_29 (w : Int) : (pTk 29 w = true ↔ pSl 0 7 w = 51 ∧ pSl 12 3 w = 1 ∧ pSl 25 7 w = 0) ∧ (pTk 29 w = true → pPt 29 w = (pSl 7 5 w, pSl 15 5 w, pSl 20 5 w, 0)) := by
  have f7_5 := pSl_lo 7 5 w
  have f15_5 := pSl_lo 15 5 w
  have f20_5 := pSl_lo 20 5 w
  simp only [show (2 : Int) ^ 1 = 2 from rfl, show (2 : Int) ^ 2 = 4 from rfl, show (2 : Int) ^ 3 = 8 from rfl, show (2 : Int) ^ 4 = 16 from rfl, show (2 : Int) ^ 5 = 32 from rfl, show (2 : Int) ^ 6 = 64 from rfl, show (2 : Int) ^ 7 = 128 from rfl, show (2 : Int) ^ 8 = 256 from rfl, show (2 : Int) ^ 10 = 1024 from rfl, show (2 : Int) ^ 12 = 4096 from rfl, show (2 : Int) ^ 20 = 1048576 from rfl] at f7_5 f15_5 f20_5
  unfold pTk pPt
  rw [pRes_29]
  by_cases h : pSl 0 7 w = 51 ∧ pSl 12 3 w = 1 ∧ pSl 25 7 w = 0
  · rw [if_pos h]
    have ea : pAdv 29 0 = 0 := by rw [pAdv_s (n := 12) (by decide +kernel) (by decide) (by decide) (by decide) (by decide), sxt_12]; rfl
    have ej : pAdj 29 (pSl 7 5 w, pSl 15 5 w, pSl 20 5 w, 0) = (pSl 7 5 w, pSl 15 5 w, pSl 20 5 w, 0) := by
      unfold pAdj
      simp only [ea]
      rw [if_neg (by decide)]
    show (pGood 29 (pAdj 29 (pSl 7 5 w, pSl 15 5 w, pSl 20 5 w, 0)) = true ↔ _) ∧ (pGood 29 (pAdj 29 (pSl 7 5 w, pSl 15 5 w, pSl 20 5 w, 0)) = true → pAdj 29 (pSl 7 5 w, pSl 15 5 w, pSl 20 5 w, 0) = _)
    rw [ej]
    refine ⟨?_, fun _ => rfl⟩
    unfold pGood
    rw [show pHas 29 0 = true from by decide +kernel, show pHas 29 1 = true from by decide +kernel, show pHas 29 2 = true from by decide +kernel, show pHas 29 3 = false from by decide +kernel]
    simp only [Bool.not_true, Bool.not_false, Bool.false_or, Bool.true_or, Bool.and_true, Bool.true_and, Bool.and_eq_true, pReg_n (show pSho 29 0 = false from by decide +kernel), pReg_n (show pSho 29 1 = false from by decide +kernel), pReg_n (show pSho 29 2 = false from by decide +kernel), p4g_0, p4g_1, p4g_2, p4g_3]
    try simp only [sxt_6, sxt_9, sxt_10, sxt_12, sxt_13, sxt_21]
    repeat' split
    all_goals (first | omega | (simp; omega) | (simp; done))
  · rw [if_neg h]
    refine ⟨⟨fun q => (nomatch q), fun q => absurd (by exact q) h⟩, fun q => (nomatch q)⟩
theorem pTk_30 (w : Int) : (pTk 30 w = true ↔ pSl 0 7 w = 51 ∧ pSl 12 3 w = 2 ∧ pSl 25 7 w = 0) ∧ (pTk 30 w = true → pPt 30 w = (pSl 7 5 w, pSl 15 5 w, pSl 20 5 w, 0)) := by
  have f7_5 := pSl_lo 7 5 w
  have f15_5 := pSl_lo 15 5 w
  have f20_5 := pSl_lo 20 5 w
  simp only [show (2 : Int) ^ 1 = 2 from rfl, show (2 : Int) ^ 2 = 4 from rfl, show (2 : Int) ^ 3 = 8 from rfl, show (2 : Int) ^ 4 = 16 from rfl, show (2 : Int) ^ 5 = 32 from rfl, show (2 : Int) ^ 6 = 64 from rfl, show (2 : Int) ^ 7 = 128 from rfl, show (2 : Int) ^ 8 = 256 from rfl, show (2 : Int) ^ 10 = 1024 from rfl, show (2 : Int) ^ 12 = 4096 from rfl, show (2 : Int) ^ 20 = 1048576 from rfl] at f7_5 f15_5 f20_5
  unfold pTk pPt
  rw [pRes_30]
  by_cases h : pSl 0 7 w = 51 ∧ pSl 12 3 w = 2 ∧ pSl 25 7 w = 0
  · rw [if_pos h]
    have ea : pAdv 30 0 = 0 := by rw [pAdv_s (n := 12) (by decide +kernel) (by decide) (by decide) (by decide) (by decide), sxt_12]; rfl
    have ej : pAdj 30 (pSl 7 5 w, pSl 15 5 w, pSl 20 5 w, 0) = (pSl 7 5 w, pSl 15 5 w, pSl 20 5 w, 0) := by
      unfold pAdj
      simp only [ea]
      rw [if_neg (by decide)]
    show (pGood 30 (pAdj 30 (pSl 7 5 w, pSl 15 5 w, pSl 20 5 w, 0)) = true ↔ _) ∧ (pGood 30 (pAdj 30 (pSl 7 5 w, pSl 15 5 w, pSl 20 5 w, 0)) = true → pAdj 30 (pSl 7 5 w, pSl 15 5 w, pSl 20 5 w, 0) = _)
    rw [ej]
    refine ⟨?_, fun _ => rfl⟩
    unfold pGood
    rw [show pHas 30 0 = true from by decide +kernel, show pHas 30 1 = true from by decide +kernel, show pHas 30 2 = true from by decide +kernel, show pHas 30 3 = false from by decide +kernel]
    simp only [Bool.not_true, Bool.not_false, Bool.false_or, Bool.true_or, Bool.and_true, Bool.true_and, Bool.and_eq_true, pReg_n (show pSho 30 0 = false from by decide +kernel), pReg_n (show pSho 30 1 = false from by decide +kernel), pReg_n (show pSho 30 2 = false from by decide +kernel), p4g_0, p4g_1, p4g_2, p4g_3]
    try simp only [sxt_6, sxt_9, sxt_10, sxt_12, sxt_13, sxt_21]
    repeat' split
    all_goals (first | omega | (simp; omega) | (simp; done))
  · rw [if_neg h]
    refine ⟨⟨fun q => (nomatch q), fun q => absurd (by exact q) h⟩, fun q => (nomatch q)⟩
theorem pTk_31 (w : Int) : (pTk 31 w = true ↔ pSl 0 7 w = 51 ∧ pSl 12 3 w = 3 ∧ pSl 25 7 w = 0) ∧ (pTk 31 w = true → pPt 31 w = (pSl 7 5 w, pSl 15 5 w, pSl 20 5 w, 0)) := by
  have f7_5 := pSl_lo 7 5 w
  have f15_5 := pSl_lo 15 5 w
  have f20_5 := pSl_lo 20 5 w
  simp only [show (2 : Int) ^ 1 = 2 from rfl, show (2 : Int) ^ 2 = 4 from rfl, show (2 : Int) ^ 3 = 8 from rfl, show (2 : Int) ^ 4 = 16 from rfl, show (2 : Int) ^ 5 = 32 from rfl, show (2 : Int) ^ 6 = 64 from rfl, show (2 : Int) ^ 7 = 128 from rfl, show (2 : Int) ^ 8 = 256 from rfl, show (2 : Int) ^ 10 = 1024 from rfl, show (2 : Int) ^ 12 = 4096 from rfl, show (2 : Int) ^ 20 = 1048576 from rfl] at f7_5 f15_5 f20_5
  unfold pTk pPt
  rw [pRes_31]
  by_cases h : pSl 0 7 w = 51 ∧ pSl 12 3 w = 3 ∧ pSl 25 7 w = 0
  · rw [if_pos h]
    have ea : pAdv 31 0 = 0 := by rw [pAdv_s (n := 12) (by decide +kernel) (by decide) (by decide) (by decide) (by decide), sxt_12]; rfl
    have ej : pAdj 31 (pSl 7 5 w, pSl 15 5 w, pSl 20 5 w, 0) = (pSl 7 5 w, pSl 15 5 w, pSl 20 5 w, 0) := by
      unfold pAdj
      simp only [ea]
      rw [if_neg (by decide)]
    show (pGood 31 (pAdj 31 (pSl 7 5 w, pSl 15 5 w, pSl 20 5 w, 0)) = true ↔ _) ∧ (pGood 31 (pAdj 31 (pSl 7 5 w, pSl 15 5 w, pSl 20 5 w, 0)) = true → pAdj 31 (pSl 7 5 w, pSl 15 5 w, pSl 20 5 w, 0) = _)
    rw [ej]
    refine ⟨?_, fun _ => rfl⟩
    unfold pGood
    rw [show pHas 31 0 = true from by decide +kernel, show pHas 31 1 = true from by decide +kernel, show pHas 31 2 = true from by decide +kernel, show pHas 31 3 = false from by decide +kernel]
    simp only [Bool.not_true, Bool.not_false, Bool.false_or, Bool.true_or, Bool.and_true, Bool.true_and, Bool.and_eq_true, pReg_n (show pSho 31 0 = false from by decide +kernel), pReg_n (show pSho 31 1 = false from by decide +kernel), pReg_n (show pSho 31 2 = false from by decide +kernel), p4g_0, p4g_1, p4g_2, p4g_3]
    try simp only [sxt_6, sxt_9, sxt_10, sxt_12, sxt_13, sxt_21]
    repeat' split
    all_goals (first | omega | (simp; omega) | (simp; done))
  · rw [if_neg h]
    refine ⟨⟨fun q => (nomatch q), fun q => absurd (by exact q) h⟩, fun q => (nomatch q)⟩
theorem pTk_32 (w : Int) : (pTk 32 w = true ↔ pSl 0 7 w = 51 ∧ pSl 12 3 w = 4 ∧ pSl 25 7 w = 0) ∧ (pTk 32 w = true → pPt 32 w = (pSl 7 5 w, pSl 15 5 w, pSl 20 5 w, 0)) := by
  have f7_5 := pSl_lo 7 5 w
  have f15_5 := pSl_lo 15 5 w
  have f20_5 := pSl_lo 20 5 w
  simp only [show (2 : Int) ^ 1 = 2 from rfl, show (2 : Int) ^ 2 = 4 from rfl, show (2 : Int) ^ 3 = 8 from rfl, show (2 : Int) ^ 4 = 16 from rfl, show (2 : Int) ^ 5 = 32 from rfl, show (2 : Int) ^ 6 = 64 from rfl, show (2 : Int) ^ 7 = 128 from rfl, show (2 : Int) ^ 8 = 256 from rfl, show (2 : Int) ^ 10 = 1024 from rfl, show (2 : Int) ^ 12 = 4096 from rfl, show (2 : Int) ^ 20 = 1048576 from rfl] at f7_5 f15_5 f20_5
  unfold pTk pPt
  rw [pRes_32]
  by_cases h : pSl 0 7 w = 51 ∧ pSl 12 3 w = 4 ∧ pSl 25 7 w = 0
  · rw [if_pos h]
    have ea : pAdv 32 0 = 0 := by rw [pAdv_s (n := 12) (by decide +kernel) (by decide) (by decide) (by decide) (by decide), sxt_12]; rfl
    have ej : pAdj 32 (pSl 7 5 w, pSl 15 5 w, pSl 20 5 w, 0) = (pSl 7 5 w, pSl 15 5 w, pSl 20 5 w, 0) := by
      unfold pAdj
      simp only [ea]
      rw [if_neg (by decide)]
    show (pGood 32 (pAdj 32 (pSl 7 5 w, pSl 15 5 w, pSl 20 5 w, 0)) = true ↔ _) ∧ (pGood 32 (pAdj 32 (pSl 7 5 w, pSl 15 5 w, pSl 20 5 w, 0)) = true → pAdj 32 (pSl 7 5 w, pSl 15 5 w, pSl 20 5 w, 0) = _)
    rw [ej]
    refine ⟨?_, fun _ => rfl⟩
    unfold pGood
    rw [show pHas 32 0 = true from by decide +kernel, show pHas 32 1 = true from by decide +kernel, show pHas 32 2 = true from by decide +kernel, show pHas 32 3 = false from by decide +kernel]
    simp only [Bool.not_true, Bool.not_false, Bool.false_or, Bool.true_or, Bool.and_true, Bool.true_and, Bool.and_eq_true, pReg_n (show pSho 32 0 = false from by decide +kernel), pReg_n (show pSho 32 1 = false from by decide +kernel), pReg_n (show pSho 32 2 = false from by decide +kernel), p4g_0, p4g_1, p4g_2, p4g_3]
    try simp only [sxt_6, sxt_9, sxt_10, sxt_12, sxt_13, sxt_21]
    repeat' split
    all_goals (first | omega | (simp; omega) | (simp; done))
  · rw [if_neg h]
    refine ⟨⟨fun q => (nomatch q), fun q => absurd (by exact q) h⟩, fun q => (nomatch q)⟩
theorem pTk_33 (w : Int) : (pTk 33 w = true ↔ pSl 0 7 w = 51 ∧ pSl 12 3 w = 5 ∧ pSl 25 7 w = 0) ∧ (pTk 33 w = true → pPt 33 w = (pSl 7 5 w, pSl 15 5 w, pSl 20 5 w, 0)) := by
  have f7_5 := pSl_lo 7 5 w
  have f15_5 := pSl_lo 15 5 w
  have f20_5 := pSl_lo 20 5 w
  simp only [show (2 : Int) ^ 1 = 2 from rfl, show (2 : Int) ^ 2 = 4 from rfl, show (2 : Int) ^ 3 = 8 from rfl, show (2 : Int) ^ 4 = 16 from rfl, show (2 : Int) ^ 5 = 32 from rfl, show (2 : Int) ^ 6 = 64 from rfl, show (2 : Int) ^ 7 = 128 from rfl, show (2 : Int) ^ 8 = 256 from rfl, show (2 : Int) ^ 10 = 1024 from rfl, show (2 : Int) ^ 12 = 4096 from rfl, show (2 : Int) ^ 20 = 1048576 from rfl] at f7_5 f15_5 f20_5
  unfold pTk pPt
  rw [pRes_33]
  by_cases h : pSl 0 7 w = 51 ∧ pSl 12 3 w = 5 ∧ pSl 25 7 w = 0
  · rw [if_pos h]
    have ea : pAdv 33 0 = 0 := by rw [pAdv_s (n := 12) (by decide +kernel) (by decide) (by decide) (by decide) (by decide), sxt_12]; rfl
    have ej : pAdj 33 (pSl 7 5 w, pSl 15 5 w, pSl 20 5 w, 0) = (pSl 7 5 w, pSl 15 5 w, pSl 20 5 w, 0) := by
      unfold pAdj
      simp only [ea]
      rw [if_neg (by decide)]
    show (pGood 33 (pAdj 33 (pSl 7 5 w, pSl 15 5 w, pSl 20 5 w, 0)) = true ↔ _) ∧ (pGood 33 (pAdj 33 (pSl 7 5 w, pSl 15 5 w, pSl 20 5 w, 0)) = true → pAdj 33 (pSl 7 5 w, pSl 15 5 w, pSl 20 5 w, 0) = _)
    rw [ej]
    refine ⟨?_, fun _ => rfl⟩
    unfold pGood
    rw [show pHas 33 0 = true from by decide +kernel, show pHas 33 1 = true from by decide +kernel, show pHas 33 2 = true from by decide +kernel, show pHas 33 3 = false from by decide +kernel]
    simp only [Bool.not_true, Bool.not_false, Bool.false_or, Bool.true_or, Bool.and_true, Bool.true_and, Bool.and_eq_true, pReg_n (show pSho 33 0 = false from by decide +kernel), pReg_n (show pSho 33 1 = false from by decide +kernel), pReg_n (show pSho 33 2 = false from by decide +kernel), p4g_0, p4g_1, p4g_2, p4g_3]
    try simp only [sxt_6, sxt_9, sxt_10, sxt_12, sxt_13, sxt_21]
    repeat' split
    all_goals (first | omega | (simp; omega) | (simp; done))
  · rw [if_neg h]
    refine ⟨⟨fun q => (nomatch q), fun q => absurd (by exact q) h⟩, fun q => (nomatch q)⟩
theorem pTk_34 (w : Int) : (pTk 34 w = true ↔ pSl 0 7 w = 51 ∧ pSl 12 3 w = 5 ∧ pSl 25 7 w = 32) ∧ (pTk 34 w = true → pPt 34 w = (pSl 7 5 w, pSl 15 5 w, pSl 20 5 w, 0)) := by
  have f7_5 := pSl_lo 7 5 w
  have f15_5 := pSl_lo 15 5 w
  have f20_5 := pSl_lo 20 5 w
  simp only [show (2 : Int) ^ 1 = 2 from rfl, show (2 : Int) ^ 2 = 4 from rfl, show (2 : Int) ^ 3 = 8 from rfl, show (2 : Int) ^ 4 = 16 from rfl, show (2 : Int) ^ 5 = 32 from rfl, show (2 : Int) ^ 6 = 64 from rfl, show (2 : Int) ^ 7 = 128 from rfl, show (2 : Int) ^ 8 = 256 from rfl, show (2 : Int) ^ 10 = 1024 from rfl, show (2 : Int) ^ 12 = 4096 from rfl, show (2 : Int) ^ 20 = 1048576 from rfl] at f7_5 f15_5 f20_5
  unfold pTk pPt
  rw [pRes_34]
  by_cases h : pSl 0 7 w = 51 ∧ pSl 12 3 w = 5 ∧ pSl 25 7 w = 32
  · rw [if_pos h]
    have ea : pAdv 34 0 = 0 := by rw [pAdv_s (n := 12) (by decide +kernel) (by decide) (by decide) (by decide) (by decide), sxt_12]; rfl
    have ej : pAdj 34 (pSl 7 5 w, pSl 15 5 w, pSl 20 5 w, 0) = (pSl 7 5 w, pSl 15 5 w, pSl 20 5 w, 0) := by
      unfold pAdj
      simp only [ea]
      rw [if_neg (by decide)]
    show (pGood 34 (pAdj 34 (pSl 7 5 w, pSl 15 5 w, pSl 20 5 w, 0)) = true ↔ _) ∧ (pGood 34 (pAdj 34 (pSl 7 5 w, pSl 15 5 w, pSl 20 5 w, 0)) = true → pAdj 34 (pSl 7 5 w, pSl 15 5 w, pSl 20 5 w, 0) = _)
    rw [ej]
    refine ⟨?_, fun _ => rfl⟩
    unfold pGood
    rw [show pHas 34 0 = true from by decide +kernel, show pHas 34 1 = true from by decide +kernel, show pHas 34 2 = true from by decide +kernel, show pHas 34 3 = false from by decide +kernel]
    simp only [Bool.not_true, Bool.not_false, Bool.false_or, Bool.true_or, Bool.and_true, Bool.true_and, Bool.and_eq_true, pReg_n (show pSho 34 0 = false from by decide +kernel), pReg_n (show pSho 34 1 = false from by decide +kernel), pReg_n (show pSho 34 2 = false from by decide +kernel), p4g_0, p4g_1, p4g_2, p4g_3]
    try simp only [sxt_6, sxt_9, sxt_10, sxt_12, sxt_13, sxt_21]
    repeat' split
    all_goals (first | omega | (simp; omega) | (simp; done))
  · rw [if_neg h]
    refine ⟨⟨fun q => (nomatch q), fun q => absurd (by exact q) h⟩, fun q => (nomatch q)⟩
theorem pTk_35 (w : Int) : (pTk 35 w = true ↔ pSl 0 7 w = 51 ∧ pSl 12 3 w = 6 ∧ pSl 25 7 w = 0) ∧ (pTk 35 w = true → pPt 35 w = (pSl 7 5 w, pSl 15 5 w, pSl 20 5 w, 0)) := by
  have f7_5 := pSl_lo 7 5 w
  have f15_5 := pSl_lo 15 5 w
  have f20_5 := pSl_lo 20 5 w
  simp only [show (2 : Int) ^ 1 = 2 from rfl, show (2 : Int) ^ 2 = 4 from rfl, show (2 : Int) ^ 3 = 8 from rfl, show (2 : Int) ^ 4 = 16 from rfl, show (2 : Int) ^ 5 = 32 from rfl, show (2 : Int) ^ 6 = 64 from rfl, show (2 : Int) ^ 7 = 128 from rfl, show (2 : Int) ^ 8 = 256 from rfl, show (2 : Int) ^ 10 = 1024 from rfl, show (2 : Int) ^ 12 = 4096 from rfl, show (2 : Int) ^ 20 = 1048576 from rfl] at f7_5 f15_5 f20_5
  unfold pTk pPt
  rw [pRes_35]
  by_cases h : pSl 0 7 w = 51 ∧ pSl 12 3 w = 6 ∧ pSl 25 7 w = 0
  · rw [if_pos h]
    have ea : pAdv 35 0 = 0 := by rw [pAdv_s (n := 12) (by decide +kernel) (by decide) (by decide) (by decide) (by decide), sxt_12]; rfl
    have ej : pAdj 35 (pSl 7 5 w, pSl 15 5 w, pSl 20 5 w, 0) = (pSl 7 5 w, pSl 15 5 w, pSl 20 5 w, 0) := by
      unfold pAdj
      simp only [ea]
      rw [if_neg (by decide)]
    show (pGood 35 (pAdj 35 (pSl 7 5 w, pSl 15 5 w, pSl 20 5 w, 0)) = true ↔ _) ∧ (pGood 35 (pAdj 35 (pSl 7 5 w, pSl 15 5 w, pSl 20 5 w, 0)) = true → pAdj 35 (pSl 7 5 w, pSl 15 5 w, pSl 20 5 w, 0) = _)
    rw [ej]
    refine ⟨?_, fun _ => rfl⟩
    unfold pGood
    rw [show pHas 35 0 = true from by decide +kernel, show pHas 35 1 = true from by decide +kernel, show pHas 35 2 = true from by decide +kernel, show pHas 35 3 = false from by decide +kernel]
    simp only [Bool.not_true, Bool.not_false, Bool.false_or, Bool.true_or, Bool.and_true, Bool.true_and, Bool.and_eq_true, pReg_n (show pSho 35 0 = false from by decide +kernel), pReg_n (show pSho 35 1 = false from by decide +kernel), pReg_n (show pSho 35 2 = false from by decide +kernel), p4g_0, p4g_1, p4g_2, p4g_3]
    try simp only [sxt_6, sxt_9, sxt_10, sxt_12, sxt_13, sxt_21]
    repeat' split
    all_goals (first | omega | (simp; omega) | (simp; done))
  · rw [if_neg h]
    refine ⟨⟨fun q => (nomatch q), fun q => absurd (by exact q) h⟩, fun q => (nomatch q)⟩
theorem pTk_36 (w : Int) : (pTk 36 w = true ↔ pSl 0 7 w = 51 ∧ pSl 12 3 w = 7 ∧ pSl 25 7 w = 0) ∧ (pTk 36 w = true → pPt 36 w = (pSl 7 5 w, pSl 15 5 w, pSl 20 5 w, 0)) := by
  have f7_5 := pSl_lo 7 5 w
  have f15_5 := pSl_lo 15 5 w
  have f20_5 := pSl_lo 20 5 w
  simp only [show (2 : Int) ^ 1 = 2 from rfl, show (2 : Int) ^ 2 = 4 from rfl, show (2 : Int) ^ 3 = 8 from rfl, show (2 : Int) ^ 4 = 16 from rfl, show (2 : Int) ^ 5 = 32 from rfl, show (2 : Int) ^ 6 = 64 from rfl, show (2 : Int) ^ 7 = 128 from rfl, show (2 : Int) ^ 8 = 256 from rfl, show (2 : Int) ^ 10 = 1024 from rfl, show (2 : Int) ^ 12 = 4096 from rfl, show (2 : Int) ^ 20 = 1048576 from rfl] at f7_5 f15_5 f20_5
  unfold pTk pPt
  rw [pRes_36]
  by_cases h : pSl 0 7 w = 51 ∧ pSl 12 3 w = 7 ∧ pSl 25 7 w = 0
  · rw [if_pos h]
    have ea : pAdv 36 0 = 0 := by rw [pAdv_s (n := 12) (by decide +kernel) (by decide) (by decide) (by decide) (by decide), sxt_12]; rfl
    have ej : pAdj 36 (pSl 7 5 w, pSl 15 5 w, pSl 20 5 w, 0) = (pSl 7 5 w, pSl 15 5 w, pSl 20 5 w, 0) := by
      unfold pAdj
      simp only [ea]
      rw [if_neg (by decide)]
    show (pGood 36 (pAdj 36 (pSl 7 5 w, pSl 15 5 w, pSl 20 5 w, 0)) = true ↔ _) ∧ (pGood 36 (pAdj 36 (pSl 7 5 w, pSl 15 5 w, pSl 20 5 w, 0)) = true → pAdj 36 (pSl 7 5 w, pSl 15 5 w, pSl 20 5 w, 0) = _)
    rw [ej]
    refine ⟨?_, fun _ => rfl⟩
    unfold pGood
    rw [show pHas 36 0 = true from by decide +kernel, show pHas 36 1 = true from by decide +kernel, show pHas 36 2 = true from by decide +kernel, show pHas 36 3 = false from by decide +kernel]
    simp only [Bool.not_true, Bool.not_false, Bool.false_or, Bool.true_or, Bool.and_true, Bool.true_and, Bool.and_eq_true, pReg_n (show pSho 36 0 = false from by decide +kernel), pReg_n (show pSho 36 1 = false from by decide +kernel), pReg_n (show pSho 36 2 = false from by decide +kernel), p4g_0, p4g_1, p4g_2, p4g_3]
    try simp only [sxt_6, sxt_9, sxt_10, sxt_12, sxt_13, sxt_21]
    repeat' split
    all_goals (first | omega | (simp; omega) | (simp; done))
  · rw [if_neg h]
    refine ⟨⟨fun q => (nomatch q), fun q => absurd (by exact q) h⟩, fun q => (nomatch q)⟩
theorem pTk_37 (w : Int) : (pTk 37 w = true ↔ pSl 0 7 w = 51 ∧ pSl 12 3 w = 0 ∧ pSl 25 7 w = 1) ∧ (pTk 37 w = true → pPt 37 w = (pSl 7 5 w, pSl 15 5 w, pSl 20 5 w, 0)) := by
  have f7_5 := pSl_lo 7 5 w
  have f15_5 := pSl_lo 15 5 w
  have f20_5 := pSl_lo 20 5 w
  simp only [show (2 : Int) ^ 1 = 2 from rfl, show (2 : Int) ^ 2 = 4 from rfl, show (2 : Int) ^ 3 = 8 from rfl, show (2 : Int) ^ 4 = 16 from rfl, show (2 : Int) ^ 5 = 32 from rfl, show (2 : Int) ^ 6 = 64 from rfl, show (2 : Int) ^ 7 = 128 from rfl, show (2 : Int) ^ 8 = 256 from rfl, show (2 : Int) ^ 10 = 1024 from rfl, show (2 : Int) ^ 12 = 4096 from rfl, show (2 : Int) ^ 20 = 1048576 from rfl] at f7_5 f15_5 f20_5
  unfold pTk pPt
  rw [pRes_37]
  by_cases h : pSl 0 7 w = 51 ∧ pSl 12 3 w = 0 ∧ pSl 25 7 w = 1
  · rw [if_pos h]
    have ea : pAdv 37 0 = 0 := by rw [pAdv_s (n := 12) (by decide +kernel) (by decide) (by decide) (by decide) (by decide), sxt_12]; rfl
    have ej : pAdj 37 (pSl 7 5 w, pSl 15 5 w, pSl 20 5 w, 0) = (pSl 7 5 w, pSl 15 5 w, pSl 20 5 w, 0) := by
      unfold pAdj
      simp only [ea]
      rw [if_neg (by decide)]
    show (pGood 37 (pAdj 37 (pSl 7 5 w, pSl 15 5 w, pSl 20 5 w, 0)) = true ↔ _) ∧ (pGood 37 (pAdj 37 (pSl 7 5 w, pSl 15 5 w, pSl 20 5 w, 0)) = true → pAdj 37 (pSl 7 5 w, pSl 15 5 w, pSl 20 5 w, 0) = _)
    rw [ej]
    refine ⟨?_, fun _ => rfl⟩
    unfold pGood
    rw [show pHas 37 0 = true from by decide +kernel, show pHas 37 1 = true from by decide +kernel, show pHas 37 2 = true from by decide +kernel, show pHas 37 3 = false from by decide +kernel]
    simp only [Bool.not_true, Bool.not_false, Bool.false_or, Bool.true_or, Bool.and_true, Bool.true_and, Bool.and_eq_true, pReg_n (show pSho 37 0 = false from by decide +kernel), pReg_n (show pSho 37 1 = false from by decide +kernel), pReg_n (show pSho 37 2 = false from by decide +kernel), p4g_0, p4g_1, p4g_2, p4g_3]
    try simp only [sxt_6, sxt_9, sxt_10, sxt_12, sxt_13, sxt_21]
    repeat' split
    all_goals (first | omega | (simp; omega) | (simp; done))
  · rw [if_neg h]
    refine ⟨⟨fun q => (nomatch q), fun q => absurd (by exact q) h⟩, fun q => (nomatch q)⟩
theorem pTk_38 (w : Int) : (pTk 38 w = true ↔ pSl 0 7 w = 51 ∧ pSl 12 3 w = 1 ∧ pSl 25 7 w = 1) ∧ (pTk 38 w = true → pPt 38 w = (pSl 7 5 w, pSl 15 5 w, pSl 20 5 w, 0)) := by
  have f7_5 := pSl_lo 7 5 w
  have f15_5 := pSl_lo 15 5 w
  have f20_5 := pSl_lo 20 5 w
  simp only [show (2 : Int) ^ 1 = 2 from rfl, show (2 : Int) ^ 2 = 4 from rfl, show (2 : Int) ^ 3 = 8 from rfl, show (2 : Int) ^ 4 = 16 from rfl, show (2 : Int) ^ 5 = 32 from rfl, show (2 : Int) ^ 6 = 64 from rfl, show (2 : Int) ^ 7 = 128 from rfl, show (2 : Int) ^ 8 = 256 from rfl, show (2 : Int) ^ 10 = 1024 from rfl, show (2 : Int) ^ 12 = 4096 from rfl, show (2 : Int) ^ 20 = 1048576 from rfl] at f7_5 f15_5 f20_5
  unfold pTk pPt
  rw [pRes_38]
  by_cases h : pSl 0 7 w = 51 ∧ pSl 12 3 w = 1 ∧ pSl 25 7 w = 1
  · rw [if_pos h]
    have ea : pAdv 38 0 = 0 := by rw [pAdv_s (n := 12) (by decide +kernel) (by decide) (by decide) (by decide) (by decide), sxt_12]; rfl
    have ej : pAdj 38 (pSl 7 5 w, pSl 15 5 w, pSl 20 5 w, 0) = (pSl 7 5 w, pSl 15 5 w, pSl 20 5 w, 0) := by
      unfold pAdj
      simp only [ea]
      rw [if_neg (by decide)]
    show (pGood 38 (pAdj 38 (pSl 7 5 w, pSl 15 5 w, pSl 20 5 w, 0)) = true ↔ _) ∧ (pGood 38 (pAdj 38 (pSl 7 5 w, pSl 15 5 w, pSl 20 5 w, 0)) = true → pAdj 38 (pSl 7 5 w, pSl 15 5 w, pSl 20 5 w, 0) = _)
    rw [ej]
    refine ⟨?_, fun _ => rfl⟩
    unfold pGood
    rw [show pHas 38 0 = true from by decide +kernel, show pHas 38 1 = true from by decide +kernel, show pHas 38 2 = true from by decide +kernel, show pHas 38 3 = false from by decide +kernel]
    simp only [Bool.not_true, Bool.not_false, Bool.false_or, Bool.true_or, Bool.and_true, Bool.true_and, Bool.and_eq_true, pReg_n (show pSho 38 0 = false from by decide +kernel), pReg_n (show pSho 38 1 = false from by decide +kernel), pReg_n (show pSho 38 2 = false from by decide +kernel), p4g_0, p4g_1, p4g_2, p4g_3]
    try simp only [sxt_6, sxt_9, sxt_10, sxt_12, sxt_13, sxt_21]
    repeat' split
    all_goals (first | omega | (simp; omega) | (simp; done))
  · rw [if_neg h]
    refine ⟨⟨fun q => (nomatch q), fun q => absurd (by exact q) h⟩, fun q => (nomatch q)⟩
theorem pTk_39 (w : Int) : (pTk 39 w = true ↔ pSl 0 7 w = 51 ∧ pSl 12 3 w = 2 ∧ pSl 25 7 w = 1) ∧ (pTk 39 w = true → pPt 39 w = (pSl 7 5 w, pSl 15 5 w, pSl 20 5 w, 0)) := by
  have f7_5 := pSl_lo 7 5 w
  have f15_5 := pSl_lo 15 5 w
  have f20_5 := pSl_lo 20 5 w
  simp only [show (2 : Int) ^ 1 = 2 from rfl, show (2 : Int) ^ 2 = 4 from rfl, show (2 : Int) ^ 3 = 8 from rfl, show (2 : Int) ^ 4 = 16 from rfl, show (2 : Int) ^ 5 = 32 from rfl, show (2 : Int) ^ 6 = 64 from rfl, show (2 : Int) ^ 7 = 128 from rfl, show (2 : Int) ^ 8 = 256 from rfl, show (2 : Int) ^ 10 = 1024 from rfl, show (2 : Int) ^ 12 = 4096 from rfl, show (2 : Int) ^ 20 = 1048576 from rfl] at f7_5 f15_5 f20_5
  unfold pTk pPt
  rw [pRes_39]
  by_cases h : pSl 0 7 w = 51 ∧ pSl 12 3 w = 2 ∧ pSl 25 7 w = 1
  · rw [if_pos h]
    have ea : pAdv 39 0 = 0 := by rw [pAdv_s (n := 12) (by decide +kernel) (by decide) (by decide) (by decide) (by decide), sxt_12]; rfl
    have ej : pAdj 39 (pSl 7 5 w, pSl 15 5 w, pSl 20 5 w, 0) = (pSl 7 5 w, pSl 15 5 w, pSl 20 5 w, 0) := by
      unfold pAdj
      simp only [ea]
      rw [if_neg (by decide)]
    show (pGood 39 (pAdj 39 (pSl 7 5 w, pSl 15 5 w, pSl 20 5 w, 0)) = true ↔ _) ∧ (pGood 39 (pAdj 39 (pSl 7 5 w, pSl 15 5 w, pSl 20 5 w, 0)) = true → pAdj 39 (pSl 7 5 w, pSl 15 5 w, pSl 20 5 w, 0) = _)
    rw [ej]
    refine ⟨?_, fun _ => rfl⟩
    unfold pGood
    rw [show pHas 39 0 = true from by decide +kernel, show pHas 39 1 = true from by decide +kernel, show pHas 39 2 = true from by decide +kernel, show pHas 39 3 = false from by decide +kernel]
    simp only [Bool.not_true, Bool.not_false, Bool.false_or, Bool.true_or, Bool.and_true, Bool.true_and, Bool.and_eq_true, pReg_n (show pSho 39 0 = false from by decide +kernel), pReg_n (show pSho 39 1 = false from by decide +kernel), pReg_n (show pSho 39 2 = false from by decide +kernel), p4g_0, p4g_1, p4g_2, p4g_3]
    try simp only [sxt_6, sxt_9, sxt_10, sxt_12, sxt_13, sxt_21]
    repeat' split
    all_goals (first | omega | (simp; omega) | (simp; done))
  · rw [if_neg h]
    refine ⟨⟨fun q => (nomatch q), fun q => absurd (by exact q) h⟩, fun q => (nomatch q)⟩
theorem pTk_40 (w : Int) : (pTk 40 w = true ↔ pSl 0 7 w = 51 ∧ pSl 12 3 w = 3 ∧ pSl 25 7 w = 1) ∧ (pTk 40 w = true → pPt 40 w = (pSl 7 5 w, pSl 15 5 w, pSl 20 5 w, 0)) := by
  have f7_5 := pSl_lo 7 5 w
  have f15_5 := pSl_lo 15 5 w
  have f20_5 := pSl_lo 20 5 w
  simp only [show (2 : Int) ^ 1 = 2 from rfl, show (2 : Int) ^ 2 = 4 from rfl, show (2 : Int) ^ 3 = 8 from rfl, show (2 : Int) ^ 4 = 16 from rfl, show (2 : Int) ^ 5 = 32 from rfl, show (2 : Int) ^ 6 = 64 from rfl, show (2 : Int) ^ 7 = 128 from rfl, show (2 : Int) ^ 8 = 256 from rfl, show (2 : Int) ^ 10 = 1024 from rfl, show (2 : Int) ^ 12 = 4096 from rfl, show (2 : Int) ^ 20 = 1048576 from rfl] at f7_5 f15_5 f20_5
  unfold pTk pPt
  rw [pRes_40]
  by_cases h : pSl 0 7 w = 51 ∧ pSl 12 3 w = 3 ∧ pSl 25 7 w = 1
  · rw [if_pos h]
    have ea : pAdv 40 0 = 0 := by rw [pAdv_s (n := 12) (by decide +kernel) (by decide) (by decide) (by decide) (by decide), sxt_12]; rfl
    have ej : pAdj 40 (pSl 7 5 w, pSl 15 5 w, pSl 20 5 w, 0) = (pSl 7 5 w, pSl 15 5 w, pSl 20 5 w, 0) := by
      unfold pAdj
      simp only [ea]
      rw [if_neg (by decide)]
    show (pGood 40 (pAdj 40 (pSl 7 5 w, pSl 15 5 w, pSl 20 5 w, 0)) = true ↔ _) ∧ (pGood 40 (pAdj 40 (pSl 7 5 w, pSl 15 5 w, pSl 20 5 w, 0)) = true → pAdj 40 (pSl 7 5 w, pSl 15 5 w, pSl 20 5 w, 0) = _)
    rw [ej]
    refine ⟨?_, fun _ => rfl⟩
    unfold pGood
    rw [show pHas 40 0 = true from by decide +kernel, show pHas 40 1 = true from by decide +kernel, show pHas 40 2 = true from by decide +kernel, show pHas 40 3 = false from by decide +kernel]
    simp only [Bool.not_true, Bool.not_false, Bool.false_or, Bool.true_or, Bool.and_true, Bool.true_and, Bool.and_eq_true, pReg_n (show pSho 40 0 = false from by decide +kernel), pReg_n (show pSho 40 1 = false from by decide +kernel), pReg_n (show pSho 40 2 = false from by decide +kernel), p4g_0, p4g_1, p4g_2, p4g_3]
    try simp only [sxt_6, sxt_9, sxt_10, sxt_12, sxt_13, sxt_21]
    repeat' split
    all_goals (first | omega | (simp; omega) | (simp; done))
  · rw [if_neg h]
    refine ⟨⟨fun q => (nomatch q), fun q => absurd (by exact q) h⟩, fun q => (nomatch q)⟩
theorem pTk_41 (w : Int) : (pTk 41 w = true ↔ pSl 0 7 w = 51 ∧ pSl 12 3 w = 4 ∧ pSl 25 7 w = 1) ∧ (pTk 41 w = true → pPt 41 w = (pSl 7 5 w, pSl 15 5 w, pSl 20 5 w, 0)) := by
  have f7_5 := pSl_lo 7 5 w
  have f15_5 := pSl_lo 15 5 w
  have f20_5 := pSl_lo 20 5 w
  simp only [show (2 : Int) ^ 1 = 2 from rfl, show (2 : Int) ^ 2 = 4 from rfl, show (2 : Int) ^ 3 = 8 from rfl, show (2 : Int) ^ 4 = 16 from rfl, show (2 : Int) ^ 5 = 32 from rfl, show (2 : Int) ^ 6 = 64 from rfl, show (2 : Int) ^ 7 = 128 from rfl, show (2 : Int) ^ 8 = 256 from rfl, show (2 : Int) ^ 10 = 1024 from rfl, show (2 : Int) ^ 12 = 4096 from rfl, show (2 : Int) ^ 20 = 1048576 from rfl] at f7_5 f15_5 f20_5
  unfold pTk pPt
  rw [pRes_41]
  by_cases h : pSl 0 7 w = 51 ∧ pSl 12 3 w = 4 ∧ pSl 25 7 w = 1
  · rw [if_pos h]
    have ea : pAdv 41 0 = 0 := by rw [pAdv_s (n := 12) (by decide +kernel) (by decide) (by decide) (by decide) (by decide), sxt_12]; rfl
    have ej : pAdj 41 (pSl 7 5 w, pSl 15 5 w, pSl 20 5 w, 0) = (pSl 7 5 w, pSl 15 5 w, pSl 20 5 w, 0) := by
      unfold pAdj
      simp only [ea]
      rw [if_neg (by decide)]
    show (pGood 41 (pAdj 41 (pSl 7 5 w, pSl 15 5 w, pSl 20 5 w, 0)) = true ↔ _) ∧ (pGood 41 (pAdj 41 (pSl 7 5 w, pSl 15 5 w, pSl 20 5 w, 0)) = true → pAdj 41 (pSl 7 5 w, pSl 15 5 w, pSl 20 5 w, 0) = _)
    rw [ej]
    refine ⟨?_, fun _ => rfl⟩
    unfold pGood
    rw [show pHas 41 0 = true from by decide +kernel, show pHas 41 1 = true from by decide +kernel, show pHas 41 2 = true from by decide +kernel, show pHas 41 3 = false from by decide +kernel]
    simp only [Bool.not_true, Bool.not_false, Bool.false_or, Bool.true_or, Bool.and_true, Bool.true_and, Bool.and_eq_true, pReg_n (show pSho 41 0 = false from by decide +kernel), pReg_n (show pSho 41 1 = false from by decide +kernel), pReg_n (show pSho 41 2 = false from by decide +kernel), p4g_0, p4g_1, p4g_2, p4g_3]
    try simp only [sxt_6, sxt_9, sxt_10, sxt_12, sxt_13, sxt_21]
    repeat' split
    all_goals (first | omega | (simp; omega) | (simp; done))
  · rw [if_neg h]
    refine ⟨⟨fun q => (nomatch q), fun q => absurd (by exact q) h⟩, fun q => (nomatch q)⟩
theorem pTk_42 (w : Int) : (pTk 42 w = true ↔ pSl 0 7 w = 51 ∧ pSl 12 3 w = 5 ∧ pSl 25 7 w = 1) ∧ (pTk 42 w = true → pPt 42 w = (pSl 7 5 w, pSl 15 5 w, pSl 20 5 w, 0)) := by
  have f7_5 := pSl_lo 7 5 w
  have f15_5 := pSl_lo 15 5 w
  have f20_5 := pSl_lo 20 5 w
  simp only [show (2 : Int) ^ 1 = 2 from rfl, show (2 : Int) ^ 2 = 4 from rfl, show (2 : Int) ^ 3 = 8 from rfl, show (2 : Int) ^ 4 = 16 from rfl, show (2 : Int) ^ 5 = 32 from rfl, show (2 : Int) ^ 6 = 64 from rfl, show (2 : Int) ^ 7 = 128 from rfl, show (2 : Int) ^ 8 = 256 from rfl, show (2 : Int) ^ 10 = 1024 from rfl, show (2 : Int) ^ 12 = 4096 from rfl, show (2 : Int) ^ 20 = 1048576 from rfl] at f7_5 f15_5 f20_5
  unfold pTk pPt
  rw [pRes_42]
  by_cases h : pSl 0 7 w = 51 ∧ pSl 12 3 w = 5 ∧ pSl 25 7 w = 1
  · rw [if_pos h]
    have ea : pAdv 42 0 = 0 := by rw [pAdv_s (n := 12) (by decide +kernel) (by decide) (by decide) (by decide) (by decide), sxt_12]; rfl
    have ej : pAdj 42 (pSl 7 5 w, pSl 15 5 w, pSl 20 5 w, 0) = (pSl 7 5 w, pSl 15 5 w, pSl 20 5 w, 0) := by
      unfold pAdj
      simp only [ea]
      rw [if_neg (by decide)]
    show (pGood 42 (pAdj 42 (pSl 7 5 w, pSl 15 5 w, pSl 20 5 w, 0)) = true ↔ _) ∧ (pGood 42 (pAdj 42 (pSl 7 5 w, pSl 15 5 w, pSl 20 5 w, 0)) = true → pAdj 42 (pSl 7 5 w, pSl 15 5 w, pSl 20 5 w, 0) = _)
    rw [ej]
    refine ⟨?_, fun _ => rfl⟩
    unfold pGood
    rw [show pHas 42 0 = true from by decide +kernel, show pHas 42 1 = true from by decide +kernel, show pHas 42 2 = true from by decide +kernel, show pHas 42 3 = false from by decide +kernel]
    simp only [Bool.not_true, Bool.not_false, Bool.false_or, Bool.true_or, Bool.and_true, Bool.true_and, Bool.and_eq_true, pReg_n (show pSho 42 0 = false from by decide +kernel), pReg_n (show pSho 42 1 = false from by decide +kernel), pReg_n (show pSho 42 2 = false from by decide +kernel), p4g_0, p4g_1, p4g_2, p4g_3]
    try simp only [sxt_6, sxt_9, sxt_10, sxt_12, sxt_13, sxt_21]
    repeat' split
    all_goals (first | omega | (simp; omega) | (simp; done))
  · rw [if_neg h]
    refine ⟨⟨fun q => (nomatch q), fun q => absurd (by exact q) h⟩, fun q => (nomatch q)⟩
theorem pTk_43 (w : Int) : (pTk 43 w = true ↔ pSl 0 7 w = 51 ∧ pSl 12 3 w = 6 ∧ pSl 25 7 w = 1) ∧ (pTk 43 w = true → pPt 43 w = (pSl 7 5 w, pSl 15 5 w, pSl 20 5 w, 0)) := by
  have f7_5 := pSl_lo 7 5 w
  have f15_5 := pSl_lo 15 5 w
  have f20_5 := pSl_lo 20 5 w
  simp only [show (2 : Int) ^ 1 = 2 from rfl, show (2 : Int) ^ 2 = 4 from rfl, show (2 : Int) ^ 3 = 8 from rfl, show (2 : Int) ^ 4 = 16 from rfl, show (2 : Int) ^ 5 = 32 from rfl, show (2 : Int) ^ 6 = 64 from rfl, show (2 : Int) ^ 7 = 128 from rfl, show (2 : Int) ^ 8 = 256 from rfl, show (2 : Int) ^ 10 = 1024 from rfl, show (2 : Int) ^ 12 = 4096 from rfl, show (2 : Int) ^ 20 = 1048576 from rfl] at f7_5 f15_5 f20_5
  unfold pTk pPt
  rw [pRes_43]
  by_cases h : pSl 0 7 w = 51 ∧ pSl 12 3 w = 6 ∧ pSl 25 7 w = 1
  · rw [if_pos h]
    have ea : pAdv 43 0 = 0 := by rw [pAdv_s (n := 12) (by decide +kernel) (by decide) (by decide) (by decide) (by decide), sxt_12]; rfl
    have ej : pAdj 43 (pSl 7 5 w, pSl 15 5 w, pSl 20 5 w, 0) = (pSl 7 5 w, pSl 15 5 w, pSl 20 5 w, 0) := by
      unfold pAdj
      simp only [ea]
      rw [if_neg (by decide)]
    show (pGood 43 (pAdj 43 (pSl 7 5 w, pSl 15 5 w, pSl 20 5 w, 0)) = true ↔ _) ∧ (pGood 43 (pAdj 43 (pSl 7 5 w, pSl 15 5 w, pSl 20 5 w, 0)) = true → pAdj 43 (pSl 7 5 w, pSl 15 5 w, pSl 20 5 w, 0) = _)
    rw [ej]
    refine ⟨?_, fun _ => rfl⟩
    unfold pGood
    rw [show pHas 43 0 = true from by decide +kernel, show pHas 43 1 = true from by decide +kernel, show pHas 43 2 = true from by decide +kernel, show pHas 43 3 = false from by decide +kernel]
    simp only [Bool.not_true, Bool.not_false, Bool.false_or, Bool.true_or, Bool.and_true, Bool.true_and, Bool.and_eq_true, pReg_n (show pSho 43 0 = false from by decide +kernel), pReg_n (show pSho 43 1 = false from by decide +kernel), pReg_n (show pSho 43 2 = false from by decide +kernel), p4g_0, p4g_1, p4g_2, p4g_3]
    try simp only [sxt_6, sxt_9, sxt_10, sxt_12, sxt_13, sxt_21]
    repeat' split
    all_goals (first | omega | (simp; omega) | (simp; done))
  · rw [if_neg h]
    refine ⟨⟨fun q => (nomatch q), fun q => absurd (by exact q) h⟩, fun q => (nomatch q)⟩
theorem pTk_44 (w : Int) : (pTk 44 w = true ↔ pSl 0 7 w = 51 ∧ pSl 12 3 w = 7 ∧ pSl 25 7 w = 1) ∧ (pTk 44 w = true → pPt 44 w = (pSl 7 5 w, pSl 15 5 w, pSl 20 5 w, 0)) := by
  have f7_5 := pSl_lo 7 5 w
  have f15_5 := pSl_lo 15 5 w
  have f20_5 := pSl_lo 20 5 w
  simp only [show (2 : Int) ^ 1 = 2 from rfl, show (2 : Int) ^ 2 = 4 from rfl, show (2 : Int) ^ 3 = 8 from rfl, show (2 : Int) ^ 4 = 16 from rfl, show (2 : Int) ^ 5 = 32 from rfl, show (2 : Int) ^ 6 = 64 from rfl, show (2 : Int) ^ 7 = 128 from rfl, show (2 : Int) ^ 8 = 256 from rfl, show (2 : Int) ^ 10 = 1024 from rfl, show (2 : Int) ^ 12 = 4096 from rfl, show (2 : Int) ^ 20 = 1048576 from rfl] at f7_5 f15_5 f20_5
  unfold pTk pPt
  rw [pRes_44]
  by_cases h : pSl 0 7 w = 51 ∧ pSl 12 3 w = 7 ∧ pSl 25 7 w = 1
  · rw [if_pos h]
    have ea : pAdv 44 0 = 0 := by rw [pAdv_s (n := 12) (by decide +kernel) (by decide) (by decide) (by decide) (by decide), sxt_12]; rfl
    have ej : pAdj 44 (pSl 7 5 w, pSl 15 5 w, pSl 20 5 w, 0) = (pSl 7 5 w, pSl 15 5 w, pSl 20 5 w, 0) := by
      unfold pAdj
      simp only [ea]
      rw [if_neg (by decide)]
    show (pGood 44 (pAdj 44 (pSl 7 5 w, pSl 15 5 w, pSl 20 5 w, 0)) = true ↔ _) ∧ (pGood 44 (pAdj 44 (pSl 7 5 w, pSl 15 5 w, pSl 20 5 w, 0)) = true → pAdj 44 (pSl 7 5 w, pSl 15 5 w, pSl 20 5 w, 0) = _)
    rw [ej]
    refine ⟨?_, fun _ => rfl⟩
    unfold pGood
    rw [show pHas 44 0 = true from by decide +kernel, show pHas 44 1 = true from by decide +kernel, show pHas 44 2 = true from by decide +kernel, show pHas 44 3 = false from by decide +kernel]
    simp only [Bool.not_true, Bool.not_false, Bool.false_or, Bool.true_or, Bool.and_true, Bool.true_and, Bool.and_eq_true, pReg_n (show pSho 44 0 = false from by decide +kernel), pReg_n (show pSho 44 1 = false from by decide +kernel), pReg_n (show pSho 44 2 = false from by decide +kernel), p4g_0, p4g_1, p4g_2, p4g_3]
    try simp only [sxt_6, sxt_9, sxt_10, sxt_12, sxt_13, sxt_21]
    repeat' split
    all_goals (first | omega | (simp; omega) | (simp; done))
  · rw [if_neg h]
    refine ⟨⟨fun q => (nomatch q), fun q => absurd (by exact q) h⟩, fun q => (nomatch q)⟩
theorem pTk_45 (w : Int) : (pTk 45 w = true ↔ pSl 0 32 w = 267386895) ∧ (pTk 45 w = true → pPt 45 w = (0, 0, 0, 0)) := by
  unfold pTk pPt
  rw [pRes_45]
  by_cases h : pSl 0 32 w = 267386895
  · rw [if_pos h]
    have ea : pAdv 45 0 = 0 := by rw [pAdv_s (n := 12) (by decide +kernel) (by decide) (by decide) (by decide) (by decide), sxt_12]; rfl
    have ej : pAdj 45 (0, 0, 0, 0) = (0, 0, 0, 0) := by
      unfold pAdj
      simp only [ea]
      rw [if_neg (by decide)]
    show (pGood 45 (pAdj 45 (0, 0, 0, 0)) = true ↔ _) ∧ (pGood 45 (pAdj 45 (0, 0, 0, 0)) = true → pAdj 45 (0, 0, 0, 0) = _)
    rw [ej]
    refine ⟨?_, fun _ => rfl⟩
    unfold pGood
    rw [show pHas 45 0 = false from by decide +kernel, show pHas 45 1 = false from by decide +kernel, show pHas 45 2 = false from by decide +kernel, show pHas 45 3 = false from by decide +kernel]
    simp only [Bool.not_true, Bool.not_false, Bool.false_or, Bool.true_or, Bool.and_true, Bool.true_and, Bool.and_eq_true, p4g_0, p4g_1, p4g_2, p4g_3]
    try simp only [sxt_6, sxt_9, sxt_10, sxt_12, sxt_13, sxt_21]
    repeat' split
    all_goals (first | omega | (simp; omega) | (simp; done))
  · rw [if_neg h]
    refine ⟨⟨fun q => (nomatch q), fun q => absurd (by exact q) h⟩, fun q => (nomatch q)⟩
theorem pTk_46 (w : Int) : (pTk 46 w = true ↔ pSl 0 32 w = 115) ∧ (pTk 46 w = true → pPt 46 w = (0, 0, 0, 0)) := by
  unfold pTk pPt
  rw [pRes_46]
  by_cases h : pSl 0 32 w = 115
  · rw [if_pos h]
    have ea : pAdv 46 0 = 0 := by rw [pAdv_s (n := 12) (by decide +kernel) (by decide) (by decide) (by decide) (by decide), sxt_12]; rfl
    have ej : pAdj 46 (0, 0, 0, 0) = (0, 0, 0, 0) := by
      unfold pAdj
      simp only [ea]
      rw [if_neg (by decide)]
    show (pGood 46 (pAdj 46 (0, 0, 0, 0)) = true ↔ _) ∧ (pGood 46 (pAdj 46 (0, 0, 0, 0)) = true → pAdj 46 (0, 0, 0, 0) = _)
    rw [ej]
    refine ⟨?_, fun _ => rfl⟩
    unfold pGood
    rw [show pHas 46 0 = false from by decide +kernel, show pHas 46 1 = false from by decide +kernel, show pHas 46 2 = false from by decide +kernel, show pHas 46 3 = false from by decide +kernel]
    simp only [Bool.not_true, Bool.not_false, Bool.false_or, Bool.true_or, Bool.and_true, Bool.true_and, Bool.and_eq_true, p4g_0, p4g_1, p4g_2, p4g_3]
    try simp only [sxt_6, sxt_9, sxt_10, sxt_12, sxt_13, sxt_21]
    repeat' split
    all_goals (first | omega | (simp; omega) | (simp; done))
  · rw [if_neg h]
    refine ⟨⟨fun q => (nomatch q), fun q => absurd (by exact q) h⟩, fun q => (nomatch q)⟩
theorem pTk_47 (w : Int) : (pTk 47 w = true ↔ pSl 0 32 w = 1048691) ∧ (pTk 47 w = true → pPt 47 w = (0, 0, 0, 0)) := by
  unfold pTk pPt
  rw [pRes_47]
  by_cases h : pSl 0 32 w = 1048691
  · rw [if_pos h]
    have ea : pAdv 47 0 = 0 := by rw [pAdv_s (n := 12) (by decide +kernel) (by decide) (by decide) (by decide) (by decide), sxt_12]; rfl
    have ej : pAdj 47 (0, 0, 0, 0) = (0, 0, 0, 0) := by
      unfold pAdj
      simp only [ea]
      rw [if_neg (by decide)]
    show (pGood 47 (pAdj 47 (0, 0, 0, 0)) = true ↔ _) ∧ (pGood 47 (pAdj 47 (0, 0, 0, 0)) = true → pAdj 47 (0, 0, 0, 0) = _)
    rw [ej]
    refine ⟨?_, fun _ => rfl⟩
    unfold pGood
    rw [show pHas 47 0 = false from by decide +kernel, show pHas 47 1 = false from by decide +kernel, show pHas 47 2 = false from by decide +kernel, show pHas 47 3 = false from by decide +kernel]
    simp only [Bool.not_true, Bool.not_false, Bool.false_or, Bool.true_or, Bool.and_true, Bool.true_and, Bool.and_eq_true, p4g_0, p4g_1, p4g_2, p4g_3]
    try simp only [sxt_6, sxt_9, sxt_10, sxt_12, sxt_13, sxt_21]
    repeat' split
    all_goals (first | omega | (simp; omega) | (simp; done))
  · rw [if_neg h]
    refine ⟨⟨fun q => (nomatch q), fun q => absurd (by exact q) h⟩, fun q => (nomatch q)⟩
theorem pTk_48 (w : Int) : (pTk 48 w = true ↔ pSl 0 2 w = 0 ∧ pSl 13 3 w = 0 ∧ ¬ pSl 5 1 w * 8 + pSl 6 1 w * 4 + pSl 7 4 w * 64 + pSl 11 2 w * 16 = 0) ∧ (pTk 48 w = true → pPt 48 w = (8 + pSl 2 3 w, 0, 0, pSl 5 1 w * 8 + pSl 6 1 w * 4 + pSl 7 4 w * 64 + pSl 11 2 w * 16)) := by
  have f2_3 := pSl_lo 2 3 w
  have f5_1 := pSl_lo 5 1 w
  have f6_1 := pSl_lo 6 1 w
  have f7_4 := pSl_lo 7 4 w
  have f11_2 := pSl_lo 11 2 w
  simp only [show (2 : Int) ^ 1 = 2 from rfl, show (2 : Int) ^ 2 = 4 from rfl, show (2 : Int) ^ 3 = 8 from rfl, show (2 : Int) ^ 4 = 16 from rfl, show (2 : Int) ^ 5 = 32 from rfl, show (2 : Int) ^ 6 = 64 from rfl, show (2 : Int) ^ 7 = 128 from rfl, show (2 : Int) ^ 8 = 256 from rfl, show (2 : Int) ^ 10 = 1024 from rfl, show (2 : Int) ^ 12 = 4096 from rfl, show (2 : Int) ^ 20 = 1048576 from rfl] at f2_3 f5_1 f6_1 f7_4 f11_2
  unfold pTk pPt
  rw [pRes_48]
  by_cases h : pSl 0 2 w = 0 ∧ pSl 13 3 w = 0
  · rw [if_pos h]
    have ea : pAdv 48 (pSl 5 1 w * 8 + pSl 6 1 w * 4 + pSl 7 4 w * 64 + pSl 11 2 w * 16) = pSl 5 1 w * 8 + pSl 6 1 w * 4 + pSl 7 4 w * 64 + pSl 11 2 w * 16 := pAdv_u (by decide +kernel) _
    have ej : pAdj 48 (8 + pSl 2 3 w, 0, 0, pSl 5 1 w * 8 + pSl 6 1 w * 4 + pSl 7 4 w * 64 + pSl 11 2 w * 16) = (8 + pSl 2 3 w, 0, 0, pSl 5 1 w * 8 + pSl 6 1 w * 4 + pSl 7 4 w * 64 + pSl 11 2 w * 16) := by
      unfold pAdj
      simp only [ea]
      rw [if_neg (by decide)]
    show (pGood 48 (pAdj 48 (8 + pSl 2 3 w, 0, 0, pSl 5 1 w * 8 + pSl 6 1 w * 4 + pSl 7 4 w * 64 + pSl 11 2 w * 16)) = true ↔ _) ∧ (pGood 48 (pAdj 48 (8 + pSl 2 3 w, 0, 0, pSl 5 1 w * 8 + pSl 6 1 w * 4 + pSl 7 4 w * 64 + pSl 11 2 w * 16)) = true → pAdj 48 (8 + pSl 2 3 w, 0, 0, pSl 5 1 w * 8 + pSl 6 1 w * 4 + pSl 7 4 w * 64 + pSl 11 2 w * 16) = _)
    rw [ej]
    refine ⟨?_, fun _ => rfl⟩
    unfold pGood
    rw [show pHas 48 0 = true from by decide +kernel, show pHas 48 1 = false from by decide +kernel, show pHas 48 2 = false from by decide +kernel, show pHas 48 3 = true from by decide +kernel]
    simp only [Bool.not_true, Bool.not_false, Bool.false_or, Bool.true_or, Bool.and_true, Bool.true_and, Bool.and_eq_true, pReg_s (show pSho 48 0 = true from by decide +kernel), pImm_48, p4g_0, p4g_1, p4g_2, p4g_3]
    try simp only [sxt_6, sxt_9, sxt_10, sxt_12, sxt_13, sxt_21]
    repeat' split
    all_goals (first | omega | (simp; omega) | (simp; done))
  · rw [if_neg h]
    refine ⟨⟨fun q => (nomatch q), fun q => absurd (by omega) h⟩, fun q => (nomatch q)⟩
theorem pTk_49 (w : Int) : (pTk 49 w = true ↔ pSl 0 2 w = 0 ∧ pSl 13 3 w = 2) ∧ (pTk 49 w = true → pPt 49 w = (8 + pSl 2 3 w, 8 + pSl 7 3 w, 0, pSl 5 1 w * 64 + pSl 6 1 w * 4 + pSl 10 3 w * 8)) := by
  have f2_3 := pSl_lo 2 3 w
  have f5_1 := pSl_lo 5 1 w
  have f6_1 := pSl_lo 6 1 w
  have f7_3 := pSl_lo 7 3 w
  have f10_3 := pSl_lo 10 3 w
  simp only [show (2 : Int) ^ 1 = 2 from rfl, show (2 : Int) ^ 2 = 4 from rfl, show (2 : Int) ^ 3 = 8 from rfl, show (2 : Int) ^ 4 = 16 from rfl, show (2 : Int) ^ 5 = 32 from rfl, show (2 : Int) ^ 6 = 64 from rfl, show (2 : Int) ^ 7 = 128 from rfl, show (2 : Int) ^ 8 = 256 from rfl, show (2 : Int) ^ 10 = 1024 from rfl, show (2 : Int) ^ 12 = 4096 from rfl, show (2 : Int) ^ 20 = 1048576 from rfl] at f2_3 f5_1 f6_1 f7_3 f10_3
  unfold pTk pPt
  rw [pRes_49]
  by_cases h : pSl 0 2 w = 0 ∧ pSl 13 3 w = 2
  · rw [if_pos h]
    have ea : pAdv 49 (pSl 5 1 w * 64 + pSl 6 1 w * 4 + pSl 10 3 w * 8) = pSl 5 1 w * 64 + pSl 6 1 w * 4 + pSl 10 3 w * 8 := pAdv_u (by decide +kernel) _
    have ej : pAdj 49 (8 + pSl 2 3 w, 8 + pSl 7 3 w, 0, pSl 5 1 w * 64 + pSl 6 1 w * 4 + pSl 10 3 w * 8) = (8 + pSl 2 3 w, 8 + pSl 7 3 w, 0, pSl 5 1 w * 64 + pSl 6 1 w * 4 + pSl 10 3 w * 8) := by
      unfold pAdj
      simp only [ea]
      rw [if_neg (by decide)]
    show (pGood 49 (pAdj 49 (8 + pSl 2 3 w, 8 + pSl 7 3 w, 0, pSl 5 1 w * 64 + pSl 6 1 w * 4 + pSl 10 3 w * 8)) = true ↔ _) ∧ (pGood 49 (pAdj 49 (8 + pSl 2 3 w, 8 + pSl 7 3 w, 0, pSl 5 1 w * 64 + pSl 6 1 w * 4 + pSl 10 3 w * 8)) = true → pAdj 49 (8 + pSl 2 3 w, 8 + pSl 7 3 w, 0, pSl 5 1 w * 64 + pSl 6 1 w * 4 + pSl 10 3 w * 8) = _)
    rw [ej]
    refine ⟨?_, fun _ => rfl⟩
    unfold pGood
    rw [show pHas 49 0 = true from by decide +kernel, show pHas 49 1 = true from by decide +kernel, show pHas 49 2 = false from by decide +kernel, show pHas 49 3 = true from by decide +kernel]
    simp only [Bool.not_true, Bool.not_false, Bool.false_or, Bool.true_or, Bool.and_true, Bool.true_and, Bool.and_eq_true, pReg_s (show pSho 49 0 = true from by decide +kernel), pReg_s (show pSho 49 1 = true from by decide +kernel), pImm_49, p4g_0, p4g_1, p4g_2, p4g_3]
    try simp only [sxt_6, sxt_9, sxt_10, sxt_12, sxt_13, sxt_21]
    repeat' split
    all_goals (first | omega | (simp; omega) | (simp; done))
  · rw [if_neg h]
    refine ⟨⟨fun q => (nomatch q), fun q => absurd (by exact q) h⟩, fun q => (nomatch q)⟩
theorem pTk_50 (w : Int) : (pTk 50 w = true ↔ pSl 0 2 w = 0 ∧ pSl 13 3 w = 6) ∧ (pTk 50 w = true → pPt 50 w = (0, 8 + pSl 7 3 w, 8 + pSl 2 3 w, pSl 5 1 w * 64 + pSl 6 1 w * 4 + pSl 10 3 w * 8)) := by
  have f2_3 := pSl_lo 2 3 w
  have f5_1 := pSl_lo 5 1 w
  have f6_1 := pSl_lo 6 1 w
  have f7_3 := pSl_lo 7 3 w
  have f10_3 := pSl_lo 10 3 w
  simp only [show (2 : Int) ^ 1 = 2 from rfl, show (2 : Int) ^ 2 = 4 from rfl, show (2 : Int) ^ 3 = 8 from rfl, show (2 : Int) ^ 4 = 16 from rfl, show (2 : Int) ^ 5 = 32 from rfl, show (2 : Int) ^ 6 = 64 from rfl, show (2 : Int) ^ 7 = 128 from rfl, show (2 : Int) ^ 8 = 256 from rfl, show (2 : Int) ^ 10 = 1024 from rfl, show (2 : Int) ^ 12 = 4096 from rfl, show (2 : Int) ^ 20 = 1048576 from rfl] at f2_3 f5_1 f6_1 f7_3 f10_3
  unfold pTk pPt
  rw [pRes_50]
  by_cases h : pSl 0 2 w = 0 ∧ pSl 13 3 w = 6
  · rw [if_pos h]
    have ea : pAdv 50 (pSl 5 1 w * 64 + pSl 6 1 w * 4 + pSl 10 3 w * 8) = pSl 5 1 w * 64 + pSl 6 1 w * 4 + pSl 10 3 w * 8 := pAdv_u (by decide +kernel) _
    have ej : pAdj 50 (0, 8 + pSl 7 3 w, 8 + pSl 2 3 w, pSl 5 1 w * 64 + pSl 6 1 w * 4 + pSl 10 3 w * 8) = (0, 8 + pSl 7 3 w, 8 + pSl 2 3 w, pSl 5 1 w * 64 + pSl 6 1 w * 4 + pSl 10 3 w * 8) := by
      unfold pAdj
      simp only [ea]
      rw [if_neg (by decide)]
    show (pGood 50 (pAdj 50 (0, 8 + pSl 7 3 w, 8 + pSl 2 3 w, pSl 5 1 w * 64 + pSl 6 1 w * 4 + pSl 10 3 w * 8)) = true ↔ _) ∧ (pGood 50 (pAdj 50 (0, 8 + pSl 7 3 w, 8 + pSl 2 3 w, pSl 5 1 w * 64 + pSl 6 1 w * 4 + pSl 10 3 w * 8)) = true → pAdj 50 (0, 8 + pSl 7 3 w, 8 + pSl 2 3 w, pSl 5 1 w * 64 + pSl 6 1 w * 4 + pSl 10 3 w * 8) = _)
    rw [ej]
    refine ⟨?_, fun _ => rfl⟩
    unfold pGood
    rw [show pHas 50 0 = false from by decide +kernel, show pHas 50 1 = true from by decide +kernel, show pHas 50 2 = true from by decide +kernel, show pHas 50 3 = true from by decide +kernel]
    simp only [Bool.not_true, Bool.not_false, Bool.false_or, Bool.true_or, Bool.and_true, Bool.true_and, Bool.and_eq_true, pReg_s (show pSho 50 1 = true from by decide +kernel), pReg_s (show pSho 50 2 = true from by decide +kernel), pImm_50, p4g_0, p4g_1, p4g_2, p4g_3]
    try simp only [sxt_6, sxt_9, sxt_10, sxt_12, sxt_13, sxt_21]
    repeat' split
    all_goals (first | omega | (simp; omega) | (simp; done))
  · rw [if_neg h]
    refine ⟨⟨fun q => (nomatch q), fun q => absurd (by exact q) h⟩, fun q => (nomatch q)⟩
theorem pTk_51 (w : Int) : (pTk 51 w = true ↔ pSl 0 16 w = 1) ∧ (pTk 51 w = true → pPt 51 w = (0, 0, 0, 0)) := by
  unfold pTk pPt
  rw [pRes_51]
  by_cases h : pSl 0 16 w = 1
  · rw [if_pos h]
    have ea : pAdv 51 0 = 0 := pAdv_u (by decide +kernel) _
    have ej : pAdj 51 (0, 0, 0, 0) = (0, 0, 0, 0) := by
      unfold pAdj
      simp only [ea]
      rw [if_neg (by decide)]
    show (pGood 51 (pAdj 51 (0, 0, 0, 0)) = true ↔ _) ∧ (pGood 51 (pAdj 51 (0, 0, 0, 0)) = true → pAdj 51 (0, 0, 0, 0) = _)
    rw [ej]
    refine ⟨?_, fun _ => rfl⟩
    unfold pGood
    rw [show pHas 51 0 = false from by decide +kernel, show pHas 51 1 = false from by decide +kernel, show pHas 51 2 = false from by decide +kernel, show pHas 51 3 = false from by decide +kernel]
    simp only [Bool.not_true, Bool.not_false, Bool.false_or, Bool.true_or, Bool.and_true, Bool.true_and, Bool.and_eq_true, p4g_0, p4g_1, p4g_2, p4g_3]
    try simp only [sxt_6, sxt_9, sxt_10, sxt_12, sxt_13, sxt_21]
    repeat' split
    all_goals (first | omega | (simp; omega) | (simp; done))
  · rw [if_neg h]
    refine ⟨⟨fun q => (nomatch q), fun q => absurd (by exact q) h⟩, fun q => (nomatch q)⟩
theorem pTk_52 (w : Int) : (pTk 52 w = true ↔ pSl 0 2 w = 1 ∧ pSl 13 3 w = 0 ∧ ¬ pSl 7 5 w = 0 ∧ ¬ sxt 6 (pSl 2 5 w + pSl 12 1 w * 32) = 0) ∧ (pTk 52 w = true → pPt 52 w = (pSl 7 5 w, 0, 0, sxt 6 (pSl 2 5 w + pSl 12 1 w * 32))) := by
  have f2_5 := pSl_lo 2 5 w
  have f7_5 := pSl_lo 7 5 w
  have f12_1 := pSl_lo 12 1 w
  simp only [show (2 : Int) ^ 1 = 2 from rfl, show (2 : Int) ^ 2 = 4 from rfl, show (2 : Int) ^ 3 = 8 from rfl, show (2 : Int) ^ 4 = 16 from rfl, show (2 : Int) ^ 5 = 32 from rfl, show (2 : Int) ^ 6 = 64 from rfl, show (2 : Int) ^ 7 = 128 from rfl, show (2 : Int) ^ 8 = 256 from rfl, show (2 : Int) ^ 10 = 1024 from rfl, show (2 : Int) ^ 12 = 4096 from rfl, show (2 : Int) ^ 20 = 1048576 from rfl] at f2_5 f7_5 f12_1
  unfold pTk pPt
  rw [pRes_52]
  by_cases h : pSl 0 2 w = 1 ∧ pSl 13 3 w = 0
  · rw [if_pos h]
    have ea : pAdv 52 (pSl 2 5 w + pSl 12 1 w * 32) = sxt 6 (pSl 2 5 w + pSl 12 1 w * 32) := pAdv_s (by decide +kernel) (by decide) (by decide) (by omega) (by show _ < (64 : Int); omega)
    have ej : pAdj 52 (pSl 7 5 w, 0, 0, pSl 2 5 w + pSl 12 1 w * 32) = (pSl 7 5 w, 0, 0, sxt 6 (pSl 2 5 w + pSl 12 1 w * 32)) := by
      unfold pAdj
      simp only [ea]
      rw [if_neg (by decide)]
    show (pGood 52 (pAdj 52 (pSl 7 5 w, 0, 0, pSl 2 5 w + pSl 12 1 w * 32)) = true ↔ _) ∧ (pGood 52 (pAdj 52 (pSl 7 5 w, 0, 0, pSl 2 5 w + pSl 12 1 w * 32)) = true → pAdj 52 (pSl 7 5 w, 0, 0, pSl 2 5 w + pSl 12 1 w * 32) = _)
    rw [ej]
    refine ⟨?_, fun _ => rfl⟩
    unfold pGood
    rw [show pHas 52 0 = true from by decide +kernel, show pHas 52 1 = false from by decide +kernel, show pHas 52 2 = false from by decide +kernel, show pHas 52 3 = true from by decide +kernel]
    simp only [Bool.not_true, Bool.not_false, Bool.false_or, Bool.true_or, Bool.and_true, Bool.true_and, Bool.and_eq_true, pReg_n (show pSho 52 0 = false from by decide +kernel), pImm_52, p4g_0, p4g_1, p4g_2, p4g_3]
    try simp only [sxt_6, sxt_9, sxt_10, sxt_12, sxt_13, sxt_21]
    repeat' split
    all_goals (first | omega | (simp; omega) | (simp; done))
  · rw [if_neg h]
    refine ⟨⟨fun q => (nomatch q), fun q => absurd (by omega) h⟩, fun q => (nomatch q)⟩
theorem pTk_53 (w : Int) : (pTk 53 w = true ↔ pSl 0 2 w = 1 ∧ pSl 13 3 w = 1) ∧ (pTk 53 w = true → pPt 53 w = (0, 0, 0, sxt 12 (pSl 2 1 w * 32 + pSl 3 3 w * 2 + pSl 6 1 w * 128 + pSl 7 1 w * 64 + pSl 8 1 w * 1024 + pSl 9 2 w * 256 + pSl 11 1 w * 16 + pSl 12 1 w * 2048))) := by
  have f2_1 := pSl_lo 2 1 w
  have f3_3 := pSl_lo 3 3 w
  have f6_1 := pSl_lo 6 1 w
  have f7_1 := pSl_lo 7 1 w
  have f8_1 := pSl_lo 8 1 w
  have f9_2 := pSl_lo 9 2 w
  have f11_1 := pSl_lo 11 1 w
  have f12_1 := pSl_lo 12 1 w
  simp only [show (2 : Int) ^ 1 = 2 from rfl, show (2 : Int) ^ 2 = 4 from rfl, show (2 : Int) ^ 3 = 8 from rfl, show (2 : Int) ^ 4 = 16 from rfl, show (2 : Int) ^ 5 = 32 from rfl, show (2 : Int) ^ 6 = 64 from rfl, show (2 : Int) ^ 7 = 128 from rfl, show (2 : Int) ^ 8 = 256 from rfl, show (2 : Int) ^ 10 = 1024 from rfl, show (2 : Int) ^ 12 = 4096 from rfl, show (2 : Int) ^ 20 = 1048576 from rfl] at f2_1 f3_3 f6_1 f7_1 f8_1 f9_2 f11_1 f12_1
  unfold pTk pPt
  rw [pRes_53]
  by_cases h : pSl 0 2 w = 1 ∧ pSl 13 3 w = 1
  · rw [if_pos h]
    have ea : pAdv 53 (pSl 2 1 w * 32 + pSl 3 3 w * 2 + pSl 6 1 w * 128 + pSl 7 1 w * 64 + pSl 8 1 w * 1024 + pSl 9 2 w * 256 + pSl 11 1 w * 16 + pSl 12 1 w * 2048) = sxt 12 (pSl 2 1 w * 32 + pSl 3 3 w * 2 + pSl 6 1 w * 128 + pSl 7 1 w * 64 + pSl 8 1 w * 1024 + pSl 9 2 w * 256 + pSl 11 1 w * 16 + pSl 12 1 w * 2048) := pAdv_s (by decide +kernel) (by decide) (by decide) (by omega) (by show _ < (4096 : Int); omega)
    have ej : pAdj 53 (0, 0, 0, pSl 2 1 w * 32 + pSl 3 3 w * 2 + pSl 6 1 w * 128 + pSl 7 1 w * 64 + pSl 8 1 w * 1024 + pSl 9 2 w * 256 + pSl 11 1 w * 16 + pSl 12 1 w * 2048) = (0, 0, 0, sxt 12 (pSl 2 1 w * 32 + pSl 3 3 w * 2 + pSl 6 1 w * 128 + pSl 7 1 w * 64 + pSl 8 1 w * 1024 + pSl 9 2 w * 256 + pSl 11 1 w * 16 + pSl 12 1 w * 2048)) := by
      unfold pAdj
      simp only [ea]
      rw [if_neg (by decide)]
    show (pGood 53 (pAdj 53 (0, 0, 0, pSl 2 1 w * 32 + pSl 3 3 w * 2 + pSl 6 1 w * 128 + pSl 7 1 w * 64 + pSl 8 1 w * 1024 + pSl 9 2 w * 256 + pSl 11 1 w * 16 + pSl 12 1 w * 2048)) = true ↔ _) ∧ (pGood 53 (pAdj 53 (0, 0, 0, pSl 2 1 w * 32 + pSl 3 3 w * 2 + pSl 6 1 w * 128 + pSl 7 1 w * 64 + pSl 8 1 w * 1024 + pSl 9 2 w * 256 + pSl 11 1 w * 16 + pSl 12 1 w * 2048)) = true → pAdj 53 (0, 0, 0, pSl 2 1 w * 32 + pSl 3 3 w * 2 + pSl 6 1 w * 128 + pSl 7 1 w * 64 + pSl 8 1 w * 1024 + pSl 9 2 w * 256 + pSl 11 1 w * 16 + pSl 12 1 w * 2048) = _)
    rw [ej]
    refine ⟨?_, fun _ => rfl⟩
    unfold pGood
    rw [show pHas 53 0 = false from by decide +kernel, show pHas 53 1 = false from by decide +kernel, show pHas 53 2 = false from by decide +kernel, show pHas 53 3 = true from by decide +kernel]
    simp only [Bool.not_true, Bool.not_false, Bool.false_or, Bool.true_or, Bool.and_true, Bool.true_and, Bool.and_eq_true, pImm_53, p4g_0, p4g_1, p4g_2, p4g_3]
    try simp only [sxt_6, sxt_9, sxt_10, sxt_12, sxt_13, sxt_21]
    repeat' split
    all_goals (first | omega | (simp; omega) | (simp; done))
  · rw [if_neg h]
    refine ⟨⟨fun q => (nomatch q), fun q => absurd (by exact q) h⟩, fun q => (nomatch q)⟩
theorem pTk_54 (w : Int) : (pTk 54 w = true ↔ pSl 0 2 w = 1 ∧ pSl 13 3 w = 2 ∧ ¬ pSl 7 5 w = 0) ∧ (pTk 54 w = true → pPt 54 w = (pSl 7 5 w, 0, 0, sxt 6 (pSl 2 5 w + pSl 12 1 w * 32))) := by
  have f2_5 := pSl_lo 2 5 w
  have f7_5 := pSl_lo 7 5 w
  have f12_1 := pSl_lo 12 1 w
  simp only [show (2 : Int) ^ 1 = 2 from rfl, show (2 : Int) ^ 2 = 4 from rfl, show (2 : Int) ^ 3 = 8 from rfl, show (2 : Int) ^ 4 = 16 from rfl, show (2 : Int) ^ 5 = 32 from rfl, show (2 : Int) ^ 6 = 64 from rfl, show (2 : Int) ^ 7 = 128 from rfl, show (2 : Int) ^ 8 = 256 from rfl, show (2 : Int) ^ 10 = 1024 from rfl, show (2 : Int) ^ 12 = 4096 from rfl, show (2 : Int) ^ 20 = 1048576 from rfl] at f2_5 f7_5 f12_1
  unfold pTk pPt
  rw [pRes_54]
  by_cases h : pSl 0 2 w = 1 ∧ pSl 13 3 w = 2
  · rw [if_pos h]
    have ea : pAdv 54 (pSl 2 5 w + pSl 12 1 w * 32) = sxt 6 (pSl 2 5 w + pSl 12 1 w * 32) := pAdv_s (by decide +kernel) (by decide) (by decide) (by omega) (by show _ < (64 : Int); omega)
    have ej : pAdj 54 (pSl 7 5 w, 0, 0, pSl 2 5 w + pSl 12 1 w * 32) = (pSl 7 5 w, 0, 0, sxt 6 (pSl 2 5 w + pSl 12 1 w * 32)) := by
      unfold pAdj
      simp only [ea]
      rw [if_neg (by decide)]
    show (pGood 54 (pAdj 54 (pSl 7 5 w, 0, 0, pSl 2 5 w + pSl 12 1 w * 32)) = true ↔ _) ∧ (pGood 54 (pAdj 54 (pSl 7 5 w, 0, 0, pSl 2 5 w + pSl 12 1 w * 32)) = true → pAdj 54 (pSl 7 5 w, 0, 0, pSl 2 5 w + pSl 12 1 w * 32) = _)
    rw [ej]
    refine ⟨?_, fun _ => rfl⟩
    unfold pGood
    rw [show pHas 54 0 = true from by decide +kernel, show pHas 54 1 = false from by decide +kernel, show pHas 54 2 = false from by decide +kernel, show pHas 54 3 = true from by decide +kernel]
    simp only [Bool.not_true, Bool.not_false, Bool.false_or, Bool.true_or, Bool.and_true, Bool.true_and, Bool.and_eq_true, pReg_n (show pSho 54 0 = false from by decide +kernel), pImm_54, p4g_0, p4g_1, p4g_2, p4g_3]
    try simp only [sxt_6, sxt_9, sxt_10, sxt_12, sxt_13, sxt_21]
    repeat' split
    all_goals (first | omega | (simp; omega) | (simp; done))
  · rw [if_neg h]
    refine ⟨⟨fun q => (nomatch q), fun q => absurd (by omega) h⟩, fun q => (nomatch q)⟩
theorem pTk_55 (w : Int) : (pTk 55 w = true ↔ pSl 0 2 w = 1 ∧ pSl 7 5 w = 2 ∧ pSl 13 3 w = 3 ∧ ¬ sxt 10 (pSl 2 1 w * 32 + pSl 3 2 w * 128 + pSl 5 1 w * 64 + pSl 6 1 w * 16 + pSl 12 1 w * 512) = 0) ∧ (pTk 55 w = true → pPt 55 w = (0, 0, 0, sxt 10 (pSl 2 1 w * 32 + pSl 3 2 w * 128 + pSl 5 1 w * 64 + pSl 6 1 w * 16 + pSl 12 1 w * 512))) := by
  have f2_1 := pSl_lo 2 1 w
  have f3_2 := pSl_lo 3 2 w
  have f5_1 := pSl_lo 5 1 w
  have f6_1 := pSl_lo 6 1 w
  have f12_1 := pSl_lo 12 1 w
  simp only [show (2 : Int) ^ 1 = 2 from rfl, show (2 : Int) ^ 2 = 4 from rfl, show (2 : Int) ^ 3 = 8 from rfl, show (2 : Int) ^ 4 = 16 from rfl, show (2 : Int) ^ 5 = 32 from rfl, show (2 : Int) ^ 6 = 64 from rfl, show (2 : Int) ^ 7 = 128 from rfl, show (2 : Int) ^ 8 = 256 from rfl, show (2 : Int) ^ 10 = 1024 from rfl, show (2 : Int) ^ 12 = 4096 from rfl, show (2 : Int) ^ 20 = 1048576 from rfl] at f2_1 f3_2 f5_1 f6_1 f12_1
  unfold pTk pPt
  rw [pRes_55]
  by_cases h : pSl 0 2 w = 1 ∧ pSl 7 5 w = 2 ∧ pSl 13 3 w = 3
  · rw [if_pos h]
    have ea : pAdv 55 (pSl 2 1 w * 32 + pSl 3 2 w * 128 + pSl 5 1 w * 64 + pSl 6 1 w * 16 + pSl 12 1 w * 512) = sxt 10 (pSl 2 1 w * 32 + pSl 3 2 w * 128 + pSl 5 1 w * 64 + pSl 6 1 w * 16 + pSl 12 1 w * 512) := pAdv_s (by decide +kernel) (by decide) (by decide) (by omega) (by show _ < (1024 : Int); omega)
    have ej : pAdj 55 (0, 0, 0, pSl 2 1 w * 32 + pSl 3 2 w * 128 + pSl 5 1 w * 64 + pSl 6 1 w * 16 + pSl 12 1 w * 512) = (0, 0, 0, sxt 10 (pSl 2 1 w * 32 + pSl 3 2 w * 128 + pSl 5 1 w * 64 + pSl 6 1 w * 16 + pSl 12 1 w * 512)) := by
      unfold pAdj
      simp only [ea]
      rw [if_neg (by decide)]
    show (pGood 55 (pAdj 55 (0, 0, 0, pSl 2 1 w * 32 + pSl 3 2 w * 128 + pSl 5 1 w * 64 + pSl 6 1 w * 16 + pSl 12 1 w * 512)) = true ↔ _) ∧ (pGood 55 (pAdj 55 (0, 0, 0, pSl 2 1 w * 32 + pSl 3 2 w * 128 + pSl 5 1 w * 64 + pSl 6 1 w * 16 + pSl 12 1 w * 512)) = true → pAdj 55 (0, 0, 0, pSl 2 1 w * 32 + pSl 3 2 w * 128 + pSl 5 1 w * 64 + pSl 6 1 w * 16 + pSl 12 1 w * 512) = _)
    rw [ej]
    refine ⟨?_, fun _ => rfl⟩
    unfold pGood
    rw [show pHas 55 0 = false from by decide +kernel, show pHas 55 1 = false from by decide +kernel, show pHas 55 2 = false from by decide +kernel, show pHas 55 3 = true from by decide +kernel]
    simp only [Bool.not_true, Bool.not_false, Bool.false_or, Bool.true_or, Bool.and_true, Bool.true_and, Bool.and_eq_true, pImm_55, p4g_0, p4g_1, p4g_2, p4g_3]
    try simp only [sxt_6, sxt_9, sxt_10, sxt_12, sxt_13, sxt_21]
    repeat' split
    all_goals (first | omega | (simp; omega) | (simp; done))
  · rw [if_neg h]
    refine ⟨⟨fun q => (nomatch q), fun q => absurd (by omega) h⟩, fun q => (nomatch q)⟩
theorem pTk_56 (w : Int) : (pTk 56 w = true ↔ pSl 0 2 w = 1 ∧ pSl 13 3 w = 3 ∧ ¬ pSl 7 5 w = 0 ∧ ¬ pSl 7 5 w = 2 ∧ ¬ pSl 2 5 w + pSl 12 1 w * 32 = 0) ∧ (pTk 56 w = true → pPt 56 w = (pSl 7 5 w, 0, 0, sxt 6 (pSl 2 5 w + pSl 12 1 w * 32) % 1048576)) := by
  have f2_5 := pSl_lo 2 5 w
  have f7_5 := pSl_lo 7 5 w
  have f12_1 := pSl_lo 12 1 w
  simp only [show (2 : Int) ^ 1 = 2 from rfl, show (2 : Int) ^ 2 = 4 from rfl, show (2 : Int) ^ 3 = 8 from rfl, show (2 : Int) ^ 4 = 16 from rfl, show (2 : Int) ^ 5 = 32 from rfl, show (2 : Int) ^ 6 = 64 from rfl, show (2 : Int) ^ 7 = 128 from rfl, show (2 : Int) ^ 8 = 256 from rfl, show (2 : Int) ^ 10 = 1024 from rfl, show (2 : Int) ^ 12 = 4096 from rfl, show (2 : Int) ^ 20 = 1048576 from rfl] at f2_5 f7_5 f12_1
  unfold pTk pPt
  rw [pRes_56]
  by_cases h : pSl 0 2 w = 1 ∧ pSl 13 3 w = 3
  · rw [if_pos h]
    have ea : pAdv 56 (pSl 2 5 w + pSl 12 1 w * 32) = sxt 6 (pSl 2 5 w + pSl 12 1 w * 32) := pAdv_s (by decide +kernel) (by decide) (by decide) (by omega) (by show _ < (64 : Int); omega)
    have ej : pAdj 56 (pSl 7 5 w, 0, 0, pSl 2 5 w + pSl 12 1 w * 32) = (pSl 7 5 w, 0, 0, sxt 6 (pSl 2 5 w + pSl 12 1 w * 32) % 1048576) := by
      unfold pAdj
      simp only [ea]
      rw [if_pos trivial, I_and_1048575]
    show (pGood 56 (pAdj 56 (pSl 7 5 w, 0, 0, pSl 2 5 w + pSl 12 1 w * 32)) = true ↔ _) ∧ (pGood 56 (pAdj 56 (pSl 7 5 w, 0, 0, pSl 2 5 w + pSl 12 1 w * 32)) = true → pAdj 56 (pSl 7 5 w, 0, 0, pSl 2 5 w + pSl 12 1 w * 32) = _)
    rw [ej]
    refine ⟨?_, fun _ => rfl⟩
    unfold pGood
    rw [show pHas 56 0 = true from by decide +kernel, show pHas 56 1 = false from by decide +kernel, show pHas 56 2 = false from by decide +kernel, show pHas 56 3 = true from by decide +kernel]
    simp only [Bool.not_true, Bool.not_false, Bool.false_or, Bool.true_or, Bool.and_true, Bool.true_and, Bool.and_eq_true, pReg_n (show pSho 56 0 = false from by decide +kernel), pImm_56, p4g_0, p4g_1, p4g_2, p4g_3]
    try simp only [sxt_6, sxt_9, sxt_10, sxt_12, sxt_13, sxt_21]
    repeat' split
    all_goals (first | omega | (simp; omega) | (simp; done))
  · rw [if_neg h]
    refine ⟨⟨fun q => (nomatch q), fun q => absurd (by omega) h⟩, fun q => (nomatch q)⟩
theorem pTk_57 (w : Int) : (pTk 57 w = true ↔ pSl 0 2 w = 1 ∧ pSl 10 6 w = 32 ∧ ¬ pSl 2 5 w = 0) ∧ (pTk 57 w = true → pPt 57 w = (8 + pSl 7 3 w, 0, 0, pSl 2 5 w)) := by
  have f2_5 := pSl_lo 2 5 w
  have f7_3 := pSl_lo 7 3 w
  simp only [show (2 : Int) ^ 1 = 2 from rfl, show (2 : Int) ^ 2 = 4 from rfl, show (2 : Int) ^ 3 = 8 from rfl, show (2 : Int) ^ 4 = 16 from rfl, show (2 : Int) ^ 5 = 32 from rfl, show (2 : Int) ^ 6 = 64 from rfl, show (2 : Int) ^ 7 = 128 from rfl, show (2 : Int) ^ 8 = 256 from rfl, show (2 : Int) ^ 10 = 1024 from rfl, show (2 : Int) ^ 12 = 4096 from rfl, show (2 : Int) ^ 20 = 1048576 from rfl] at f2_5 f7_3
  unfold pTk pPt
  rw [pRes_57]
  by_cases h : pSl 0 2 w = 1 ∧ pSl 10 6 w = 32
  · rw [if_pos h]
    have ea : pAdv 57 (pSl 2 5 w) = pSl 2 5 w := pAdv_u (by decide +kernel) _
    have ej : pAdj 57 (8 + pSl 7 3 w, 0, 0, pSl 2 5 w) = (8 + pSl 7 3 w, 0, 0, pSl 2 5 w) := by
      unfold pAdj
      simp only [ea]
      rw [if_neg (by decide)]
    show (pGood 57 (pAdj 57 (8 + pSl 7 3 w, 0, 0, pSl 2 5 w)) = true ↔ _) ∧ (pGood 57 (pAdj 57 (8 + pSl 7 3 w, 0, 0, pSl 2 5 w)) = true → pAdj 57 (8 + pSl 7 3 w, 0, 0, pSl 2 5 w) = _)
    rw [ej]
    refine ⟨?_, fun _ => rfl⟩
    unfold pGood
    rw [show pHas 57 0 = true from by decide +kernel, show pHas 57 1 = false from by decide +kernel, show pHas 57 2 = false from by decide +kernel, show pHas 57 3 = true from by decide +kernel]
    simp only [Bool.not_true, Bool.not_false, Bool.false_or, Bool.true_or, Bool.and_true, Bool.true_and, Bool.and_eq_true, pReg_s (show pSho 57 0 = true from by decide +kernel), pImm_57, p4g_0, p4g_1, p4g_2, p4g_3]
    try simp only [sxt_6, sxt_9, sxt_10, sxt_12, sxt_13, sxt_21]
    repeat' split
    all_goals (first | omega | (simp; omega) | (simp; done))
  · rw [if_neg h]
    refine ⟨⟨fun q => (nomatch q), fun q => absurd (by omega) h⟩, fun q => (nomatch q)⟩
theorem pTk_58 (w : Int) : (pTk 58 w = true ↔ pSl 0 2 w = 1 ∧ pSl 10 6 w = 33 ∧ ¬ pSl 2 5 w = 0) ∧ (pTk 58 w = true → pPt 58 w = (8 + pSl 7 3 w, 0, 0, pSl 2 5 w)) := by
  have f2_5 := pSl_lo 2 5 w
  have f7_3 := pSl_lo 7 3 w
  simp only [show (2 : Int) ^ 1 = 2 from rfl, show (2 : Int) ^ 2 = 4 from rfl, show (2 : Int) ^ 3 = 8 from rfl, show (2 : Int) ^ 4 = 16 from rfl, show (2 : Int) ^ 5 = 32 from rfl, show (2 : Int) ^ 6 = 64 from rfl, show (2 : Int) ^ 7 = 128 from rfl, show (2 : Int) ^ 8 = 256 from rfl, show (2 : Int) ^ 10 = 1024 from rfl, show (2 : Int) ^ 12 = 4096 from rfl, show (2 : Int) ^ 20 = 1048576 from rfl] at f2_5 f7_3
  unfold pTk pPt
  rw [pRes_58]
  by_cases h : pSl 0 2 w = 1 ∧ pSl 10 6 w = 33
  · rw [if_pos h]
    have ea : pAdv 58 (pSl 2 5 w) = pSl 2 5 w := pAdv_u (by decide +kernel) _
    have ej : pAdj 58 (8 + pSl 7 3 w, 0, 0, pSl 2 5 w) = (8 + pSl 7 3 w, 0, 0, pSl 2 5 w) := by
      unfold pAdj
      simp only [ea]
      rw [if_neg (by decide)]
    show (pGood 58 (pAdj 58 (8 + pSl 7 3 w, 0, 0, pSl 2 5 w)) = true ↔ _) ∧ (pGood 58 (pAdj 58 (8 + pSl 7 3 w, 0, 0, pSl 2 5 w)) = true → pAdj 58 (8 + pSl 7 3 w, 0, 0, pSl 2 5 w) = _)
    rw [ej]
    refine ⟨?_, fun _ => rfl⟩
    unfold pGood
    rw [show pHas 58 0 = true from by decide +kernel, show pHas 58 1 = false from by decide +kernel, show pHas 58 2 = false from by decide +kernel, show pHas 58 3 = true from by decide +kernel]
    simp only [Bool.not_true, Bool.not_false, Bool.false_or, Bool.true_or, Bool.and_true, Bool.true_and, Bool.and_eq_true, pReg_s (show pSho 58 0 = true from by decide +kernel), pImm_58, p4g_0, p4g_1, p4g_2, p4g_3]
    try simp only [sxt_6, sxt_9, sxt_10, sxt_12, sxt_13, sxt_21]
    repeat' split
    all_goals (first | omega | (simp; omega) | (simp; done))
  · rw [if_neg h]
    refine ⟨⟨fun q => (nomatch q), fun q => absurd (by omega) h⟩, fun q => (nomatch q)⟩
theorem pTk_59 (w : Int) : (pTk 59 w = true ↔ pSl 0 2 w = 1 ∧ pSl 10 2 w = 2 ∧ pSl 13 3 w = 4) ∧ (pTk 59 w = true → pPt 59 w = (8 + pSl 7 3 w, 0, 0, sxt 6 (pSl 2 5 w + pSl 12 1 w * 32))) := by
  have f2_5 := pSl_lo 2 5 w
  have f7_3 := pSl_lo 7 3 w
  have f12_1 := pSl_lo 12 1 w
  simp only [show (2 : Int) ^ 1 = 2 from rfl, show (2 : Int) ^ 2 = 4 from rfl, show (2 : Int) ^ 3 = 8 from rfl, show (2 : Int) ^ 4 = 16 from rfl, show (2 : Int) ^ 5 = 32 from rfl, show (2 : Int) ^ 6 = 64 from rfl, show (2 : Int) ^ 7 = 128 from rfl, show (2 : Int) ^ 8 = 256 from rfl, show (2 : Int) ^ 10 = 1024 from rfl, show (2 : Int) ^ 12 = 4096 from rfl, show (2 : Int) ^ 20 = 1048576 from rfl] at f2_5 f7_3 f12_1
  unfold pTk pPt
  rw [pRes_59]
  by_cases h : pSl 0 2 w = 1 ∧ pSl 10 2 w = 2 ∧ pSl 13 3 w = 4
  · rw [if_pos h]
    have ea : pAdv 59 (pSl 2 5 w + pSl 12 1 w * 32) = sxt 6 (pSl 2 5 w + pSl 12 1 w * 32) := pAdv_s (by decide +kernel) (by decide) (by decide) (by omega) (by show _ < (64 : Int); omega)
    have ej : pAdj 59 (8 + pSl 7 3 w, 0, 0, pSl 2 5 w + pSl 12 1 w * 32) = (8 + pSl 7 3 w, 0, 0, sxt 6 (pSl 2 5 w + pSl 12 1 w * 32)) := by
      unfold pAdj
      simp only [ea]
      rw [if_neg (by decide)]
    show (pGood 59 (pAdj 59 (8 + pSl 7 3 w, 0, 0, pSl 2 5 w + pSl 12 1 w * 32)) = true ↔ _) ∧ (pGood 59 (pAdj 59 (8 + pSl 7 3 w, 0, 0, pSl 2 5 w + pSl 12 1 w * 32)) = true → pAdj 59 (8 + pSl 7 3 w, 0, 0, pSl 2 5 w + pSl 12 1 w * 32) = _)
    rw [ej]
    refine ⟨?_, fun _ => rfl⟩
    unfold pGood
    rw [show pHas 59 0 = true from by decide +kernel, show pHas 59 1 = false from by decide +kernel, show pHas 59 2 = false from by decide +kernel, show pHas 59 3 = true from by decide +kernel]
    simp only [Bool.not_true, Bool.not_false, Bool.false_or, Bool.true_or, Bool.and_true, Bool.true_and, Bool.and_eq_true, pReg_s (show pSho 59 0 = true from by decide +kernel), pImm_59, p4g_0, p4g_1, p4g_2, p4g_3]
    try simp only [sxt_6, sxt_9, sxt_10, sxt_12, sxt_13, sxt_21]
    repeat' split
    all_goals (first | omega | (simp; omega) | (simp; done))
  · rw [if_neg h]
    refine ⟨⟨fun q => (nomatch q), fun q => absurd (by exact q) h⟩, fun q => (nomatch q)⟩
theorem pTk_60 (w : Int) : (pTk 60 w = true ↔ pSl 0 2 w = 1 ∧ pSl 5 2 w = 0 ∧ pSl 10 6 w = 35) ∧ (pTk 60 w = true → pPt 60 w = (8 + pSl 7 3 w, 0, 8 + pSl 2 3 w, 0)) := by
  have f2_3 := pSl_lo 2 3 w
  have f7_3 := pSl_lo 7 3 w
  simp only [show (2 : Int) ^ 1 = 2 from rfl, show (2 : Int) ^ 2 = 4 from rfl, show (2 : Int) ^ 3 = 8 from rfl, show (2 : Int) ^ 4 = 16 from rfl, show (2 : Int) ^ 5 = 32 from rfl, show (2 : Int) ^ 6 = 64 from rfl, show (2 : Int) ^ 7 = 128 from rfl, show (2 : Int) ^ 8 = 256 from rfl, show (2 : Int) ^ 10 = 1024 from rfl, show (2 : Int) ^ 12 = 4096 from rfl, show (2 : Int) ^ 20 = 1048576 from rfl] at f2_3 f7_3
  unfold pTk pPt
  rw [pRes_60]
  by_cases h : pSl 0 2 w = 1 ∧ pSl 5 2 w = 0 ∧ pSl 10 6 w = 35
  · rw [if_pos h]
    have ea : pAdv 60 0 = 0 := pAdv_u (by decide +kernel) _
    have ej : pAdj 60 (8 + pSl 7 3 w, 0, 8 + pSl 2 3 w, 0) = (8 + pSl 7 3 w, 0, 8 + pSl 2 3 w, 0) := by
      unfold pAdj
      simp only [ea]
      rw [if_neg (by decide)]
    show (pGood 60 (pAdj 60 (8 + pSl 7 3 w, 0, 8 + pSl 2 3 w, 0)) = true ↔ _) ∧ (pGood 60 (pAdj 60 (8 + pSl 7 3 w, 0, 8 + pSl 2 3 w, 0)) = true → pAdj 60 (8 + pSl 7 3 w, 0, 8 + pSl 2 3 w, 0) = _)
    rw [ej]
    refine ⟨?_, fun _ => rfl⟩
    unfold pGood
    rw [show pHas 60 0 = true from by decide +kernel, show pHas 60 1 = false from by decide +kernel, show pHas 60 2 = true from by decide +kernel, show pHas 60 3 = false from by decide +kernel]
    simp only [Bool.not_true, Bool.not_false, Bool.false_or, Bool.true_or, Bool.and_true, Bool.true_and, Bool.and_eq_true, pReg_s (show pSho 60 0 = true from by decide +kernel), pReg_s (show pSho 60 2 = true from by decide +kernel), p4g_0, p4g_1, p4g_2, p4g_3]
    try simp only [sxt_6, sxt_9, sxt_10, sxt_12, sxt_13, sxt_21]
    repeat' split
    all_goals (first | omega | (simp; omega) | (simp; done))
  · rw [if_neg h]
    refine ⟨⟨fun q => (nomatch q), fun q => absurd (by exact q) h⟩, fun q => (nomatch q)⟩
theorem pTk_61 (w : Int) : (pTk 61 w = true ↔ pSl 0 2 w = 1 ∧ pSl 5 2 w = 1 ∧ pSl 10 6 w = 35) ∧ (pTk 61 w = true → pPt 61 w = (8 + pSl 7 3 w, 0, 8 + pSl 2 3 w, 0)) := by
  have f2_3 := pSl_lo 2 3 w
  have f7_3 := pSl_lo 7 3 w
  simp only [show (2 : Int) ^ 1 = 2 from rfl, show (2 : Int) ^ 2 = 4 from rfl, show (2 : Int) ^ 3 = 8 from rfl, show (2 : Int) ^ 4 = 16 from rfl, show (2 : Int) ^ 5 = 32 from rfl, show (2 : Int) ^ 6 = 64 from rfl, show (2 : Int) ^ 7 = 128 from rfl, show (2 : Int) ^ 8 = 256 from rfl, show (2 : Int) ^ 10 = 1024 from rfl, show (2 : Int) ^ 12 = 4096 from rfl, show (2 : Int) ^ 20 = 1048576 from rfl] at f2_3 f7_3
  unfold pTk pPt
  rw [pRes_61]
  by_cases h : pSl 0 2 w = 1 ∧ pSl 5 2 w = 1 ∧ pSl 10 6 w = 35
  · rw [if_pos h]
    have ea : pAdv 61 0 = 0 := pAdv_u (by decide +kernel) _
    have ej : pAdj 61 (8 + pSl 7 3 w, 0, 8 + pSl 2 3 w, 0) = (8 + pSl 7 3 w, 0, 8 + pSl 2 3 w, 0) := by
      unfold pAdj
      simp only [ea]
      rw [if_neg (by decide)]
    show (pGood 61 (pAdj 61 (8 + pSl 7 3 w, 0, 8 + pSl 2 3 w, 0)) = true ↔ _) ∧ (pGood 61 (pAdj 61 (8 + pSl 7 3 w, 0, 8 + pSl 2 3 w, 0)) = true → pAdj 61 (8 + pSl 7 3 w, 0, 8 + pSl 2 3 w, 0) = _)
    rw [ej]
    refine ⟨?_, fun _ => rfl⟩
    unfold pGood
    rw [show pHas 61 0 = true from by decide +kernel, show pHas 61 1 = false from by decide +kernel, show pHas 61 2 = true from by decide +kernel, show pHas 61 3 = false from by decide +kernel]
    simp only [Bool.not_true, Bool.not_false, Bool.false_or, Bool.true_or, Bool.and_true, Bool.true_and, Bool.and_eq_true, pReg_s (show pSho 61 0 = true from by decide +kernel), pReg_s (show pSho 61 2 = true from by decide +kernel), p4g_0, p4g_1, p4g_2, p4g_3]
    try simp only [sxt_6, sxt_9, sxt_10, sxt_12, sxt_13, sxt_21]
    repeat' split
    all_goals (first | omega | (simp; omega) | (simp; done))
  · rw [if_neg h]
    refine ⟨⟨fun q => (nomatch q), fun q => absurd (by exact q) h⟩, fun q => (nomatch q)⟩
theorem pTk_62 (w : Int) : (pTk 62 w = true ↔ pSl 0 2 w = 1 ∧ pSl 5 2 w = 2 ∧ pSl 10 6 w = 35) ∧ (pTk 62 w = true → pPt 62 w = (8 + pSl 7 3 w, 0, 8 + pSl 2 3 w, 0)) := by
  have f2_3 := pSl_lo 2 3 w
  have f7_3 := pSl_lo 7 3 w
  simp only [show (2 : Int) ^ 1 = 2 from rfl, show (2 : Int) ^ 2 = 4 from rfl, show (2 : Int) ^ 3 = 8 from rfl, show (2 : Int) ^ 4 = 16 from rfl, show (2 : Int) ^ 5 = 32 from rfl, show (2 : Int) ^ 6 = 64 from rfl, show (2 : Int) ^ 7 = 128 from rfl, show (2 : Int) ^ 8 = 256 from rfl, show (2 : Int) ^ 10 = 1024 from rfl, show (2 : Int) ^ 12 = 4096 from rfl, show (2 : Int) ^ 20 = 1048576 from rfl] at f2_3 f7_3
  unfold pTk pPt
  rw [pRes_62]
  by_cases h : pSl 0 2 w = 1 ∧ pSl 5 2 w = 2 ∧ pSl 10 6 w = 35
  · rw [if_pos h]
    have ea : pAdv 62 0 = 0 := pAdv_u (by decide +kernel) _
    have ej : pAdj 62 (8 + pSl 7 3 w, 0, 8 + pSl 2 3 w, 0) = (8 + pSl 7 3 w, 0, 8 + pSl 2 3 w, 0) := by
      unfold pAdj
      simp only [ea]
      rw [if_neg (by decide)]
    show (pGood 62 (pAdj 62 (8 + pSl 7 3 w, 0, 8 + pSl 2 3 w, 0)) = true ↔ _) ∧ (pGood 62 (pAdj 62 (8 + pSl 7 3 w, 0, 8 + pSl 2 3 w, 0)) = true → pAdj 62 (8 + pSl 7 3 w, 0, 8 + pSl 2 3 w, 0) = _)
    rw [ej]
    refine ⟨?_, fun _ => rfl⟩
    unfold pGood
    rw [show pHas 62 0 = true from by decide +kernel, show pHas 62 1 = false from by decide +kernel, show pHas 62 2 = true from by decide +kernel, show pHas 62 3 = false from by decide +kernel]
    simp only [Bool.not_true, Bool.not_false, Bool.false_or, Bool.true_or, Bool.and_true, Bool.true_and, Bool.and_eq_true, pReg_s (show pSho 62 0 = true from by decide +kernel), pReg_s (show pSho 62 2 = true from by decide +kernel), p4g_0, p4g_1, p4g_2, p4g_3]
    try simp only [sxt_6, sxt_9, sxt_10, sxt_12, sxt_13, sxt_21]
    repeat' split
    all_goals (first | omega | (simp; omega) | (simp; done))
  · rw [if_neg h]
    refine ⟨⟨fun q => (nomatch q), fun q => absurd (by exact q) h⟩, fun q => (nomatch q)⟩
theorem pTk_63 (w : Int) : (pTk 63 w = true ↔ pSl 0 2 w = 1 ∧ pSl 5 2 w = 3 ∧ pSl 10 6 w = 35) ∧ (pTk 63 w = true → pPt 63 w = (8 + pSl 7 3 w, 0, 8 + pSl 2 3 w, 0)) := by
  have f2_3 := pSl_lo 2 3 w
  have f7_3 := pSl_lo 7 3 w
  simp only [show (2 : Int) ^ 1 = 2 from rfl, show (2 : Int) ^ 2 = 4 from rfl, show (2 : Int) ^ 3 = 8 from rfl, show (2 : Int) ^ 4 = 16 from rfl, show (2 : Int) ^ 5 = 32 from rfl, show (2 : Int) ^ 6 = 64 from rfl, show (2 : Int) ^ 7 = 128 from rfl, show (2 : Int) ^ 8 = 256 from rfl, show (2 : Int) ^ 10 = 1024 from rfl, show (2 : Int) ^ 12 = 4096 from rfl, show (2 : Int) ^ 20 = 1048576 from rfl] at f2_3 f7_3
  unfold pTk pPt
  rw [pRes_63]
  by_cases h : pSl 0 2 w = 1 ∧ pSl 5 2 w = 3 ∧ pSl 10 6 w = 35
  · rw [if_pos h]
    have ea : pAdv 63 0 = 0 := pAdv_u (by decide +kernel) _
    have ej : pAdj 63 (8 + pSl 7 3 w, 0, 8 + pSl 2 3 w, 0) = (8 + pSl 7 3 w, 0, 8 + pSl 2 3 w, 0) := by
      unfold pAdj
      simp only [ea]
      rw [if_neg (by decide)]
    show (pGood 63 (pAdj 63 (8 + pSl 7 3 w, 0, 8 + pSl 2 3 w, 0)) = true ↔ _) ∧ (pGood 63 (pAdj 63 (8 + pSl 7 3 w, 0, 8 + pSl 2 3 w, 0)) = true → pAdj 63 (8 + pSl 7 3 w, 0, 8 + pSl 2 3 w, 0) = _)
    rw [ej]
    refine ⟨?_, fun _ => rfl⟩
    unfold pGood
    rw [show pHas 63 0 = true from by decide +kernel, show pHas 63 1 = false from by decide +kernel, show pHas 63 2 = true from by decide +kernel, show pHas 63 3 = false from by decide +kernel]
    simp only [Bool.not_true, Bool.not_false, Bool.false_or, Bool.true_or, Bool.and_true, Bool.true_and, Bool.and_eq_true, pReg_s (show pSho 63 0 = true from by decide +kernel), pReg_s (show pSho 63 2 = true from by decide +kernel), p4g_0, p4g_1, p4g_2, p4g_3]
    try simp only [sxt_6, sxt_9, sxt_10, sxt_12, sxt_13, sxt_21]
    repeat' split
    all_goals (first | omega | (simp; omega) | (simp; done))
  · rw [if_neg h]
    refine ⟨⟨fun q => (nomatch q), fun q => absurd (by exact q) h⟩, fun q => (nomatch q)⟩
theorem pTk_64 (w : Int) : (pTk 64 w = true ↔ pSl 0 2 w = 1 ∧ pSl 13 3 w = 5) ∧ (pTk 64 w = true → pPt 64 w = (0, 0, 0, sxt 12 (pSl 2 1 w * 32 + pSl 3 3 w * 2 + pSl 6 1 w * 128 + pSl 7 1 w * 64 + pSl 8 1 w * 1024 + pSl 9 2 w * 256 + pSl 11 1 w * 16 + pSl 12 1 w * 2048))) := by
  have f2_1 := pSl_lo 2 1 w
  have f3_3 := pSl_lo 3 3 w
  have f6_1 := pSl_lo 6 1 w
  have f7_1 := pSl_lo 7 1 w
  have f8_1 := pSl_lo 8 1 w
  have f9_2 := pSl_lo 9 2 w
  have f11_1 := pSl_lo 11 1 w
  have f12_1 := pSl_lo 12 1 w
  simp only [show (2 : Int) ^ 1 = 2 from rfl, show (2 : Int) ^ 2 = 4 from rfl, show (2 : Int) ^ 3 = 8 from rfl, show (2 : Int) ^ 4 = 16 from rfl, show (2 : Int) ^ 5 = 32 from rfl, show (2 : Int) ^ 6 = 64 from rfl, show (2 : Int) ^ 7 = 128 from rfl, show (2 : Int) ^ 8 = 256 from rfl, show (2 : Int) ^ 10 = 1024 from rfl, show (2 : Int) ^ 12 = 4096 from rfl, show (2 : Int) ^ 20 = 1048576 from rfl] at f2_1 f3_3 f6_1 f7_1 f8_1 f9_2 f11_1 f12_1
  unfold pTk pPt
  rw [pRes_64]
  by_cases h : pSl 0 2 w = 1 ∧ pSl 13 3 w = 5
  · rw [if_pos h]
    have ea : pAdv 64 (pSl 2 1 w * 32 + pSl 3 3 w * 2 + pSl 6 1 w * 128 + pSl 7 1 w * 64 + pSl 8 1 w * 1024 + pSl 9 2 w * 256 + pSl 11 1 w * 16 + pSl 12 1 w * 2048) = sxt 12 (pSl 2 1 w * 32 + pSl 3 3 w * 2 + pSl 6 1 w * 128 + pSl 7 1 w * 64 + pSl 8 1 w * 1024 + pSl 9 2 w * 256 + pSl 11 1 w * 16 + pSl 12 1 w * 2048) := pAdv_s (by decide +kernel) (by decide) (by decide) (by omega) (by show _ < (4096 : Int); omega)
    have ej : pAdj 64 (0, 0, 0, pSl 2 1 w * 32 + pSl 3 3 w * 2 + pSl 6 1 w * 128 + pSl 7 1 w * 64 + pSl 8 1 w * 1024 + pSl 9 2 w * 256 + pSl 11 1 w * 16 + pSl 12 1 w * 2048) = (0, 0, 0, sxt 12 (pSl 2 1 w * 32 + pSl 3 3 w * 2 + pSl 6 1 w * 128 + pSl 7 1 w * 64 + pSl 8 1 w * 1024 + pSl 9 2 w * 256 + pSl 11 1 w * 16 + pSl 12 1 w * 2048)) := by
      unfold pAdj
      simp only [ea]
      rw [if_neg (by decide)]
    show (pGood 64 (pAdj 64 (0, 0, 0, pSl 2 1 w * 32 + pSl 3 3 w * 2 + pSl 6 1 w * 128 + pSl 7 1 w * 64 + pSl 8 1 w * 1024 + pSl 9 2 w * 256 + pSl 11 1 w * 16 + pSl 12 1 w * 2048)) = true ↔ _) ∧ (pGood 64 (pAdj 64 (0, 0, 0, pSl 2 1 w * 32 + pSl 3 3 w * 2 + pSl 6 1 w * 128 + pSl 7 1 w * 64 + pSl 8 1 w * 1024 + pSl 9 2 w * 256 + pSl 11 1 w * 16 + pSl 12 1 w * 2048)) = true → pAdj 64 (0, 0, 0, pSl 2 1 w * 32 + pSl 3 3 w * 2 + pSl 6 1 w * 128 + pSl 7 1 w * 64 + pSl 8 1 w * 1024 + pSl 9 2 w * 256 + pSl 11 1 w * 16 + pSl 12 1 w * 2048) = _)
    rw [ej]
    refine ⟨?_, fun _ => rfl⟩
    unfold pGood
    rw [show pHas 64 0 = false from by decide +kernel, show pHas 64 1 = false from by decide +kernel, show pHas 64 2 = false from by decide +kernel, show pHas 64 3 = true from by decide +kernel]
    simp only [Bool.not_true, Bool.not_false, Bool.false_or, Bool.true_or, Bool.and_true, Bool.true_and, Bool.and_eq_true, pImm_64, p4g_0, p4g_1, p4g_2, p4g_3]
    try simp only [sxt_6, sxt_9, sxt_10, sxt_12, sxt_13, sxt_21]
    repeat' split
    all_goals (first | omega | (simp; omega) | (simp; done))
  · rw [if_neg h]
    refine ⟨⟨fun q => (nomatch q), fun q => absurd (by exact q) h⟩, fun q => (nomatch q)⟩
theorem pTk_65 (w : Int) : (pTk 65 w = true ↔ pSl 0 2 w = 1 ∧ pSl 13 3 w = 6) ∧ (pTk 65 w = true → pPt 65 w = (0, 8 + pSl 7 3 w, 0, sxt 9 (pSl 2 1 w * 32 + pSl 3 2 w * 2 + pSl 5 2 w * 64 + pSl 10 2 w * 8 + pSl 12 1 w * 256))) := by
  have f2_1 := pSl_lo 2 1 w
  have f3_2 := pSl_lo 3 2 w
  have f5_2 := pSl_lo 5 2 w
  have f7_3 := pSl_lo 7 3 w
  have f10_2 := pSl_lo 10 2 w
  have f12_1 := pSl_lo 12 1 w
  simp only [show (2 : Int) ^ 1 = 2 from rfl, show (2 : Int) ^ 2 = 4 from rfl, show (2 : Int) ^ 3 = 8 from rfl, show (2 : Int) ^ 4 = 16 from rfl, show (2 : Int) ^ 5 = 32 from rfl, show (2 : Int) ^ 6 = 64 from rfl, show (2 : Int) ^ 7 = 128 from rfl, show (2 : Int) ^ 8 = 256 from rfl, show (2 : Int) ^ 10 = 1024 from rfl, show (2 : Int) ^ 12 = 4096 from rfl, show (2 : Int) ^ 20 = 1048576 from rfl] at f2_1 f3_2 f5_2 f7_3 f10_2 f12_1
  unfold pTk pPt
  rw [pRes_65]
  by_cases h : pSl 0 2 w = 1 ∧ pSl 13 3 w = 6
  · rw [if_pos h]
    have ea : pAdv 65 (pSl 2 1 w * 32 + pSl 3 2 w * 2 + pSl 5 2 w * 64 + pSl 10 2 w * 8 + pSl 12 1 w * 256) = sxt 9 (pSl 2 1 w * 32 + pSl 3 2 w * 2 + pSl 5 2 w * 64 + pSl 10 2 w * 8 + pSl 12 1 w * 256) := pAdv_s (by decide +kernel) (by decide) (by decide) (by omega) (by show _ < (512 : Int); omega)
    have ej : pAdj 65 (0, 8 + pSl 7 3 w, 0, pSl 2 1 w * 32 + pSl 3 2 w * 2 + pSl 5 2 w * 64 + pSl 10 2 w * 8 + pSl 12 1 w * 256) = (0, 8 + pSl 7 3 w, 0, sxt 9 (pSl 2 1 w * 32 + pSl 3 2 w * 2 + pSl 5 2 w * 64 + pSl 10 2 w * 8 + pSl 12 1 w * 256)) := by
      unfold pAdj
      simp only [ea]
      rw [if_neg (by decide)]
    show (pGood 65 (pAdj 65 (0, 8 + pSl 7 3 w, 0, pSl 2 1 w * 32 + pSl 3 2 w * 2 + pSl 5 2 w * 64 + pSl 10 2 w * 8 + pSl 12 1 w * 256)) = true ↔ _) ∧ (pGood 65 (pAdj 65 (0, 8 + pSl 7 3 w, 0, pSl 2 1 w * 32 + pSl 3 2 w * 2 + pSl 5 2 w * 64 + pSl 10 2 w * 8 + pSl 12 1 w * 256)) = true → pAdj 65 (0, 8 + pSl 7 3 w, 0, pSl 2 1 w * 32 + pSl 3 2 w * 2 + pSl 5 2 w * 64 + pSl 10 2 w * 8 + pSl 12 1 w * 256) = _)
    rw [ej]
    refine ⟨?_, fun _ => rfl⟩
    unfold pGood
    rw [show pHas 65 0 = false from by decide +kernel, show pHas 65 1 = true from by decide +kernel, show pHas 65 2 = false from by decide +kernel, show pHas 65 3 = true from by decide +kernel]
    simp only [Bool.not_true, Bool.not_false, Bool.false_or, Bool.true_or, Bool.and_true, Bool.true_and, Bool.and_eq_true, pReg_s (show pSho 65 1 = true from by decide +kernel), pImm_65, p4g_0, p4g_1, p4g_2, p4g_3]
    try simp only [sxt_6, sxt_9, sxt_10, sxt_12, sxt_13, sxt_21]
    repeat' split
    all_goals (first | omega | (simp; omega) | (simp; done))
  · rw [if_neg h]
    refine ⟨⟨fun q => (nomatch q), fun q => absurd (by exact q) h⟩, fun q => (nomatch q)⟩
theorem pTk_66 (w : Int) : (pTk 66 w = true ↔ pSl 0 2 w = 1 ∧ pSl 13 3 w = 7) ∧ (pTk 66 w = true → pPt 66 w = (0, 8 + pSl 7 3 w, 0, sxt 9 (pSl 2 1 w * 32 + pSl 3 2 w * 2 + pSl 5 2 w * 64 + pSl 10 2 w * 8 + pSl 12 1 w * 256))) := by
  have f2_1 := pSl_lo 2 1 w
  have f3_2 := pSl_lo 3 2 w
  have f5_2 := pSl_lo 5 2 w
  have f7_3 := pSl_lo 7 3 w
  have f10_2 := pSl_lo 10 2 w
  have f12_1 := pSl_lo 12 1 w
  simp only [show (2 : Int) ^ 1 = 2 from rfl, show (2 : Int) ^ 2 = 4 from rfl, show (2 : Int) ^ 3 = 8 from rfl, show (2 : Int) ^ 4 = 16 from rfl, show (2 : Int) ^ 5 = 32 from rfl, show (2 : Int) ^ 6 = 64 from rfl, show (2 : Int) ^ 7 = 128 from rfl, show (2 : Int) ^ 8 = 256 from rfl, show (2 : Int) ^ 10 = 1024 from rfl, show (2 : Int) ^ 12 = 4096 from rfl, show (2 : Int) ^ 20 = 1048576 from rfl] at f2_1 f3_2 f5_2 f7_3 f10_2 f12_1
  unfold pTk pPt
  rw [pRes_66]
  by_cases h : pSl 0 2 w = 1 ∧ pSl 13 3 w = 7
  · rw [if_pos h]
    have ea : pAdv 66 (pSl 2 1 w * 32 + pSl 3 2 w * 2 + pSl 5 2 w * 64 + pSl 10 2 w * 8 + pSl 12 1 w * 256) = sxt 9 (pSl 2 1 w * 32 + pSl 3 2 w * 2 + pSl 5 2 w * 64 + pSl 10 2 w * 8 + pSl 12 1 w * 256) := pAdv_s (by decide +kernel) (by decide) (by decide) (by omega) (by show _ < (512 : Int); omega)
    have ej : pAdj 66 (0, 8 + pSl 7 3 w, 0, pSl 2 1 w * 32 + pSl 3 2 w * 2 + pSl 5 2 w * 64 + pSl 10 2 w * 8 + pSl 12 1 w * 256) = (0, 8 + pSl 7 3 w, 0, sxt 9 (pSl 2 1 w * 32 + pSl 3 2 w * 2 + pSl 5 2 w * 64 + pSl 10 2 w * 8 + pSl 12 1 w * 256)) := by
      unfold pAdj
      simp only [ea]
      rw [if_neg (by decide)]
    show (pGood 66 (pAdj 66 (0, 8 + pSl 7 3 w, 0, pSl 2 1 w * 32 + pSl 3 2 w * 2 + pSl 5 2 w * 64 + pSl 10 2 w * 8 + pSl 12 1 w * 256)) = true ↔ _) ∧ (pGood 66 (pAdj 66 (0, 8 + pSl 7 3 w, 0, pSl 2 1 w * 32 + pSl 3 2 w * 2 + pSl 5 2 w * 64 + pSl 10 2 w * 8 + pSl 12 1 w * 256)) = true → pAdj 66 (0, 8 + pSl 7 3 w, 0, pSl 2 1 w * 32 + pSl 3 2 w * 2 + pSl 5 2 w * 64 + pSl 10 2 w * 8 + pSl 12 1 w * 256) = _)
    rw [ej]
    refine ⟨?_, fun _ => rfl⟩
    unfold pGood
    rw [show pHas 66 0 = false from by decide +kernel, show pHas 66 1 = true from by decide +kernel, show pHas 66 2 = false from by decide +kernel, show pHas 66 3 = true from by decide +kernel]
    simp only [Bool.not_true, Bool.not_false, Bool.false_or, Bool.true_or, Bool.and_true, Bool.true_and, Bool.and_eq_true, pReg_s (show pSho 66 1 = true from by decide +kernel), pImm_66, p4g_0, p4g_1, p4g_2, p4g_3]
    try simp only [sxt_6, sxt_9, sxt_10, sxt_12, sxt_13, sxt_21]
    repeat' split
    all_goals (first | omega | (simp; omega) | (simp; done))
  · rw [if_neg h]
    refine ⟨⟨fun q => (nomatch q), fun q => absurd (by exact q) h⟩, fun q => (nomatch q)⟩
theorem pTk_67 (w : Int) : (pTk 67 w = true ↔ pSl 0 2 w = 2 ∧ pSl 12 4 w = 0 ∧ ¬ pSl 7 5 w = 0 ∧ ¬ pSl 2 5 w = 0) ∧ (pTk 67 w = true → pPt 67 w = (pSl 7 5 w, 0, 0, pSl 2 5 w)) := by
  have f2_5 := pSl_lo 2 5 w
  have f7_5 := pSl_lo 7 5 w
  simp only [show (2 : Int) ^ 1 = 2 from rfl, show (2 : Int) ^ 2 = 4 from rfl, show (2 : Int) ^ 3 = 8 from rfl, show (2 : Int) ^ 4 = 16 from rfl, show (2 : Int) ^ 5 = 32 from rfl, show (2 : Int) ^ 6 = 64 from rfl, show (2 : Int) ^ 7 = 128 from rfl, show (2 : Int) ^ 8 = 256 from rfl, show (2 : Int) ^ 10 = 1024 from rfl, show (2 : Int) ^ 12 = 4096 from rfl, show (2 : Int) ^ 20 = 1048576 from rfl] at f2_5 f7_5
  unfold pTk pPt
  rw [pRes_67]
  by_cases h : pSl 0 2 w = 2 ∧ pSl 12 4 w = 0
  · rw [if_pos h]
    have ea : pAdv 67 (pSl 2 5 w) = pSl 2 5 w := pAdv_u (by decide +kernel) _
    have ej : pAdj 67 (pSl 7 5 w, 0, 0, pSl 2 5 w) = (pSl 7 5 w, 0, 0, pSl 2 5 w) := by
      unfold pAdj
      simp only [ea]
      rw [if_neg (by decide)]
    show (pGood 67 (pAdj 67 (pSl 7 5 w, 0, 0, pSl 2 5 w)) = true ↔ _) ∧ (pGood 67 (pAdj 67 (pSl 7 5 w, 0, 0, pSl 2 5 w)) = true → pAdj 67 (pSl 7 5 w, 0, 0, pSl 2 5 w) = _)
    rw [ej]
    refine ⟨?_, fun _ => rfl⟩
    unfold pGood
    rw [show pHas 67 0 = true from by decide +kernel, show pHas 67 1 = false from by decide +kernel, show pHas 67 2 = false from by decide +kernel, show pHas 67 3 = true from by decide +kernel]
    simp only [Bool.not_true, Bool.not_false, Bool.false_or, Bool.true_or, Bool.and_true, Bool.true_and, Bool.and_eq_true, pReg_n (show pSho 67 0 = false from by decide +kernel), pImm_67, p4g_0, p4g_1, p4g_2, p4g_3]
    try simp only [sxt_6, sxt_9, sxt_10, sxt_12, sxt_13, sxt_21]
    repeat' split
    all_goals (first | omega | (simp; omega) | (simp; done))
  · rw [if_neg h]
    refine ⟨⟨fun q => (nomatch q), fun q => absurd (by omega) h⟩, fun q => (nomatch q)⟩
theorem pTk_68 (w : Int) : (pTk 68 w = true ↔ pSl 0 2 w = 2 ∧ pSl 13 3 w = 2 ∧ ¬ pSl 7 5 w = 0) ∧ (pTk 68 w = true → pPt 68 w = (pSl 7 5 w, 0, 0, pSl 2 2 w * 64 + pSl 4 3 w * 4 + pSl 12 1 w * 32)) := by
  have f2_2 := pSl_lo 2 2 w
  have f4_3 := pSl_lo 4 3 w
  have f7_5 := pSl_lo 7 5 w
  have f12_1 := pSl_lo 12 1 w
  simp only [show (2 : Int) ^ 1 = 2 from rfl, show (2 : Int) ^ 2 = 4 from rfl, show (2 : Int) ^ 3 = 8 from rfl, show (2 : Int) ^ 4 = 16 from rfl, show (2 : Int) ^ 5 = 32 from rfl, show (2 : Int) ^ 6 = 64 from rfl, show (2 : Int) ^ 7 = 128 from rfl, show (2 : Int) ^ 8 = 256 from rfl, show (2 : Int) ^ 10 = 1024 from rfl, show (2 : Int) ^ 12 = 4096 from rfl, show (2 : Int) ^ 20 = 1048576 from rfl] at f2_2 f4_3 f7_5 f12_1
  unfold pTk pPt
  rw [pRes_68]
  by_cases h : pSl 0 2 w = 2 ∧ pSl 13 3 w = 2
  · rw [if_pos h]
    have ea : pAdv 68 (pSl 2 2 w * 64 + pSl 4 3 w * 4 + pSl 12 1 w * 32) = pSl 2 2 w * 64 + pSl 4 3 w * 4 + pSl 12 1 w * 32 := pAdv_u (by decide +kernel) _
    have ej : pAdj 68 (pSl 7 5 w, 0, 0, pSl 2 2 w * 64 + pSl 4 3 w * 4 + pSl 12 1 w * 32) = (pSl 7 5 w, 0, 0, pSl 2 2 w * 64 + pSl 4 3 w * 4 + pSl 12 1 w * 32) := by
      unfold pAdj
      simp only [ea]
      rw [if_neg (by decide)]
    show (pGood 68 (pAdj 68 (pSl 7 5 w, 0, 0, pSl 2 2 w * 64 + pSl 4 3 w * 4 + pSl 12 1 w * 32)) = true ↔ _) ∧ (pGood 68 (pAdj 68 (pSl 7 5 w, 0, 0, pSl 2 2 w * 64 + pSl 4 3 w * 4 + pSl 12 1 w * 32)) = true → pAdj 68 (pSl 7 5 w, 0, 0, pSl 2 2 w * 64 + pSl 4 3 w * 4 + pSl 12 1 w * 32) = _)
    rw [ej]
    refine ⟨?_, fun _ => rfl⟩
    unfold pGood
    rw [show pHas 68 0 = true from by decide +kernel, show pHas 68 1 = false from by decide +kernel, show pHas 68 2 = false from by decide +kernel, show pHas 68 3 = true from by decide +kernel]
    simp only [Bool.not_true, Bool.not_false, Bool.false_or, Bool.true_or, Bool.and_true, Bool.true_and, Bool.and_eq_true, pReg_n (show pSho 68 0 = false from by decide +kernel), pImm_68, p4g_0, p4g_1, p4g_2, p4g_3]
    try simp only [sxt_6, sxt_9, sxt_10, sxt_12, sxt_13, sxt_21]
    repeat' split
    all_goals (first | omega | (simp; omega) | (simp; done))
  · rw [if_neg h]
    refine ⟨⟨fun q => (nomatch q), fun q => absurd (by omega) h⟩, fun q => (nomatch q)⟩
theorem pTk_69 (w : Int) : (pTk 69 w = true ↔ pSl 0 7 w = 2 ∧ pSl 12 4 w = 8 ∧ ¬ pSl 7 5 w = 0) ∧ (pTk 69 w = true → pPt 69 w = (0, pSl 7 5 w, 0, 0)) := by
  have f7_5 := pSl_lo 7 5 w
  simp only [show (2 : Int) ^ 1 = 2 from rfl, show (2 : Int) ^ 2 = 4 from rfl, show (2 : Int) ^ 3 = 8 from rfl, show (2 : Int) ^ 4 = 16 from rfl, show (2 : Int) ^ 5 = 32 from rfl, show (2 : Int) ^ 6 = 64 from rfl, show (2 : Int) ^ 7 = 128 from rfl, show (2 : Int) ^ 8 = 256 from rfl, show (2 : Int) ^ 10 = 1024 from rfl, show (2 : Int) ^ 12 = 4096 from rfl, show (2 : Int) ^ 20 = 1048576 from rfl] at f7_5
  unfold pTk pPt
  rw [pRes_69]
  by_cases h : pSl 0 7 w = 2 ∧ pSl 12 4 w = 8
  · rw [if_pos h]
    have ea : pAdv 69 0 = 0 := pAdv_u (by decide +kernel) _
    have ej : pAdj 69 (0, pSl 7 5 w, 0, 0) = (0, pSl 7 5 w, 0, 0) := by
      unfold pAdj
      simp only [ea]
      rw [if_neg (by decide)]
    show (pGood 69 (pAdj 69 (0, pSl 7 5 w, 0, 0)) = true ↔ _) ∧ (pGood 69 (pAdj 69 (0, pSl 7 5 w, 0, 0)) = true → pAdj 69 (0, pSl 7 5 w, 0, 0) = _)
    rw [ej]
    refine ⟨?_, fun _ => rfl⟩
    unfold pGood
    rw [show pHas 69 0 = false from by decide +kernel, show pHas 69 1 = true from by decide +kernel, show pHas 69 2 = false from by decide +kernel, show pHas 69 3 = false from by decide +kernel]
    simp only [Bool.not_true, Bool.not_false, Bool.false_or, Bool.true_or, Bool.and_true, Bool.true_and, Bool.and_eq_true, pReg_n (show pSho 69 1 = false from by decide +kernel), p4g_0, p4g_1, p4g_2, p4g_3]
    try simp only [sxt_6, sxt_9, sxt_10, sxt_12, sxt_13, sxt_21]
    repeat' split
    all_goals (first | omega | (simp; omega) | (simp; done))
  · rw [if_neg h]
    refine ⟨⟨fun q => (nomatch q), fun q => absurd (by omega) h⟩, fun q => (nomatch q)⟩
theorem pTk_70 (w : Int) : (pTk 70 w = true ↔ pSl 0 2 w = 2 ∧ pSl 12 4 w = 8 ∧ ¬ pSl 7 5 w = 0 ∧ ¬ pSl 2 5 w = 0) ∧ (pTk 70 w = true → pPt 70 w = (pSl 7 5 w, 0, pSl 2 5 w, 0)) := by
  have f2_5 := pSl_lo 2 5 w
  have f7_5 := pSl_lo 7 5 w
  simp only [show (2 : Int) ^ 1 = 2 from rfl, show (2 : Int) ^ 2 = 4 from rfl, show (2 : Int) ^ 3 = 8 from rfl, show (2 : Int) ^ 4 = 16 from rfl, show (2 : Int) ^ 5 = 32 from rfl, show (2 : Int) ^ 6 = 64 from rfl, show (2 : Int) ^ 7 = 128 from rfl, show (2 : Int) ^ 8 = 256 from rfl, show (2 : Int) ^ 10 = 1024 from rfl, show (2 : Int) ^ 12 = 4096 from rfl, show (2 : Int) ^ 20 = 1048576 from rfl] at f2_5 f7_5
  unfold pTk pPt
  rw [pRes_70]
  by_cases h : pSl 0 2 w = 2 ∧ pSl 12 4 w = 8
  · rw [if_pos h]
    have ea : pAdv 70 0 = 0 := pAdv_u (by decide +kernel) _
    have ej : pAdj 70 (pSl 7 5 w, 0, pSl 2 5 w, 0) = (pSl 7 5 w, 0, pSl 2 5 w, 0) := by
      unfold pAdj
      simp only [ea]
      rw [if_neg (by decide)]
    show (pGood 70 (pAdj 70 (pSl 7 5 w, 0, pSl 2 5 w, 0)) = true ↔ _) ∧ (pGood 70 (pAdj 70 (pSl 7 5 w, 0, pSl 2 5 w, 0)) = true → pAdj 70 (pSl 7 5 w, 0, pSl 2 5 w, 0) = _)
    rw [ej]
    refine ⟨?_, fun _ => rfl⟩
    unfold pGood
    rw [show pHas 70 0 = true from by decide +kernel, show pHas 70 1 = false from by decide +kernel, show pHas 70 2 = true from by decide +kernel, show pHas 70 3 = false from by decide +kernel]
    simp only [Bool.not_true, Bool.not_false, Bool.false_or, Bool.true_or, Bool.and_true, Bool.true_and, Bool.and_eq_true, pReg_n (show pSho 70 0 = false from by decide +kernel), pReg_n (show pSho 70 2 = false from by decide +kernel), p4g_0, p4g_1, p4g_2, p4g_3]
    try simp only [sxt_6, sxt_9, sxt_10, sxt_12, sxt_13, sxt_21]
    repeat' split
    all_goals (first | omega | (simp; omega) | (simp; done))
  · rw [if_neg h]
    refine ⟨⟨fun q => (nomatch q), fun q => absurd (by omega) h⟩, fun q => (nomatch q)⟩
theorem pTk_71 (w : Int) : (pTk 71 w = true ↔ pSl 0 16 w = 36866) ∧ (pTk 71 w = true → pPt 71 w = (0, 0, 0, 0)) := by
  unfold pTk pPt
  rw [pRes_71]
  by_cases h : pSl 0 16 w = 36866
  · rw [if_pos h]
    have ea : pAdv 71 0 = 0 := pAdv_u (by decide +kernel) _
    have ej : pAdj 71 (0, 0, 0, 0) = (0, 0, 0, 0) := by
      unfold pAdj
      simp only [ea]
      rw [if_neg (by decide)]
    show (pGood 71 (pAdj 71 (0, 0, 0, 0)) = true ↔ _) ∧ (pGood 71 (pAdj 71 (0, 0, 0, 0)) = true → pAdj 71 (0, 0, 0, 0) = _)
    rw [ej]
    refine ⟨?_, fun _ => rfl⟩
    unfold pGood
    rw [show pHas 71 0 = false from by decide +kernel, show pHas 71 1 = false from by decide +kernel, show pHas 71 2 = false from by decide +kernel, show pHas 71 3 = false from by decide +kernel]
    simp only [Bool.not_true, Bool.not_false, Bool.false_or, Bool.true_or, Bool.and_true, Bool.true_and, Bool.and_eq_true, p4g_0, p4g_1, p4g_2, p4g_3]
    try simp only [sxt_6, sxt_9, sxt_10, sxt_12, sxt_13, sxt_21]
    repeat' split
    all_goals (first | omega | (simp; omega) | (simp; done))
  · rw [if_neg h]
    refine ⟨⟨fun q => (nomatch q), fun q => absurd (by exact q) h⟩, fun q => (nomatch q)⟩
theorem pTk_72 (w : Int) : (pTk 72 w = true ↔ pSl 0 7 w = 2 ∧ pSl 12 4 w = 9 ∧ ¬ pSl 7 5 w = 0) ∧ (pTk 72 w = true → pPt 72 w = (0, pSl 7 5 w, 0, 0)) := by
  have f7_5 := pSl_lo 7 5 w
  simp only [show (2 : Int) ^ 1 = 2 from rfl, show (2 : Int) ^ 2 = 4 from rfl, show (2 : Int) ^ 3 = 8 from rfl, show (2 : Int) ^ 4 = 16 from rfl, show (2 : Int) ^ 5 = 32 from rfl, show (2 : Int) ^ 6 = 64 from rfl, show (2 : Int) ^ 7 = 128 from rfl, show (2 : Int) ^ 8 = 256 from rfl, show (2 : Int) ^ 10 = 1024 from rfl, show (2 : Int) ^ 12 = 4096 from rfl, show (2 : Int) ^ 20 = 1048576 from rfl] at f7_5
  unfold pTk pPt
  rw [pRes_72]
  by_cases h : pSl 0 7 w = 2 ∧ pSl 12 4 w = 9
  · rw [if_pos h]
    have ea : pAdv 72 0 = 0 := pAdv_u (by decide +kernel) _
    have ej : pAdj 72 (0, pSl 7 5 w, 0, 0) = (0, pSl 7 5 w, 0, 0) := by
      unfold pAdj
      simp only [ea]
      rw [if_neg (by decide)]
    show (pGood 72 (pAdj 72 (0, pSl 7 5 w, 0, 0)) = true ↔ _) ∧ (pGood 72 (pAdj 72 (0, pSl 7 5 w, 0, 0)) = true → pAdj 72 (0, pSl 7 5 w, 0, 0) = _)
    rw [ej]
    refine ⟨?_, fun _ => rfl⟩
    unfold pGood
    rw [show pHas 72 0 = false from by decide +kernel, show pHas 72 1 = true from by decide +kernel, show pHas 72 2 = false from by decide +kernel, show pHas 72 3 = false from by decide +kernel]
    simp only [Bool.not_true, Bool.not_false, Bool.false_or, Bool.true_or, Bool.and_true, Bool.true_and, Bool.and_eq_true, pReg_n (show pSho 72 1 = false from by decide +kernel), p4g_0, p4g_1, p4g_2, p4g_3]
    try simp only [sxt_6, sxt_9, sxt_10, sxt_12, sxt_13, sxt_21]
    repeat' split
    all_goals (first | omega | (simp; omega) | (simp; done))
  · rw [if_neg h]
    refine ⟨⟨fun q => (nomatch q), fun q => absurd (by omega) h⟩, fun q => (nomatch q)⟩
theorem pTk_73 (w : Int) : (pTk 73 w = true ↔ pSl 0 2 w = 2 ∧ pSl 12 4 w = 9 ∧ ¬ pSl 7 5 w = 0 ∧ ¬ pSl 2 5 w = 0) ∧ (pTk 73 w = true → pPt 73 w = (pSl 7 5 w, 0, pSl 2 5 w, 0)) := by
  have f2_5 := pSl_lo 2 5 w
  have f7_5 := pSl_lo 7 5 w
  simp only [show (2 : Int) ^ 1 = 2 from rfl, show (2 : Int) ^ 2 = 4 from rfl, show (2 : Int) ^ 3 = 8 from rfl, show (2 : Int) ^ 4 = 16 from rfl, show (2 : Int) ^ 5 = 32 from rfl, show (2 : Int) ^ 6 = 64 from rfl, show (2 : Int) ^ 7 = 128 from rfl, show (2 : Int) ^ 8 = 256 from rfl, show (2 : Int) ^ 10 = 1024 from rfl, show (2 : Int) ^ 12 = 4096 from rfl, show (2 : Int) ^ 20 = 1048576 from rfl] at f2_5 f7_5
  unfold pTk pPt
  rw [pRes_73]
  by_cases h : pSl 0 2 w = 2 ∧ pSl 12 4 w = 9
  · rw [if_pos h]
    have ea : pAdv 73 0 = 0 := pAdv_u (by decide +kernel) _
    have ej : pAdj 73 (pSl 7 5 w, 0, pSl 2 5 w, 0) = (pSl 7 5 w, 0, pSl 2 5 w, 0) := by
      unfold pAdj
      simp only [ea]
      rw [if_neg (by decide)]
    show (pGood 73 (pAdj 73 (pSl 7 5 w, 0, pSl 2 5 w, 0)) = true ↔ _) ∧ (pGood 73 (pAdj 73 (pSl 7 5 w, 0, pSl 2 5 w, 0)) = true → pAdj 73 (pSl 7 5 w, 0, pSl 2 5 w, 0) = _)
    rw [ej]
    refine ⟨?_, fun _ => rfl⟩
    unfold pGood
    rw [show pHas 73 0 = true from by decide +kernel, show pHas 73 1 = false from by decide +kernel, show pHas 73 2 = true from by decide +kernel, show pHas 73 3 = false from by decide +kernel]
    simp only [Bool.not_true, Bool.not_false, Bool.false_or, Bool.true_or, Bool.and_true, Bool.true_and, Bool.and_eq_true, pReg_n (show pSho 73 0 = false from by decide +kernel), pReg_n (show pSho 73 2 = false from by decide +kernel), p4g_0, p4g_1, p4g_2, p4g_3]
    try simp only [sxt_6, sxt_9, sxt_10, sxt_12, sxt_13, sxt_21]
    repeat' split
    all_goals (first | omega | (simp; omega) | (simp; done))
  · rw [if_neg h]
    refine ⟨⟨fun q => (nomatch q), fun q => absurd (by omega) h⟩, fun q => (nomatch q)⟩
theorem pTk_74 (w : Int) : (pTk 74 w = true ↔ pSl 0 2 w = 2 ∧ pSl 13 3 w = 6) ∧ (pTk 74 w = true → pPt 74 w = (0, 0, pSl 2 5 w, pSl 7 2 w * 64 + pSl 9 4 w * 4)) := by
  have f2_5 := pSl_lo 2 5 w
  have f7_2 := pSl_lo 7 2 w
  have f9_4 := pSl_lo 9 4 w
  simp only [show (2 : Int) ^ 1 = 2 from rfl, show (2 : Int) ^ 2 = 4 from rfl, show (2 : Int) ^ 3 = 8 from rfl, show (2 : Int) ^ 4 = 16 from rfl, show (2 : Int) ^ 5 = 32 from rfl, show (2 : Int) ^ 6 = 64 from rfl, show (2 : Int) ^ 7 = 128 from rfl, show (2 : Int) ^ 8 = 256 from rfl, show (2 : Int) ^ 10 = 1024 from rfl, show (2 : Int) ^ 12 = 4096 from rfl, show (2 : Int) ^ 20 = 1048576 from rfl] at f2_5 f7_2 f9_4
  unfold pTk pPt
  rw [pRes_74]
  by_cases h : pSl 0 2 w = 2 ∧ pSl 13 3 w = 6
  · rw [if_pos h]
    have ea : pAdv 74 (pSl 7 2 w * 64 + pSl 9 4 w * 4) = pSl 7 2 w * 64 + pSl 9 4 w * 4 := pAdv_u (by decide +kernel) _
    have ej : pAdj 74 (0, 0, pSl 2 5 w, pSl 7 2 w * 64 + pSl 9 4 w * 4) = (0, 0, pSl 2 5 w, pSl 7 2 w * 64 + pSl 9 4 w * 4) := by
      unfold pAdj
      simp only [ea]
      rw [if_neg (by decide)]
    show (pGood 74 (pAdj 74 (0, 0, pSl 2 5 w, pSl 7 2 w * 64 + pSl 9 4 w * 4)) = true ↔ _) ∧ (pGood 74 (pAdj 74 (0, 0, pSl 2 5 w, pSl 7 2 w * 64 + pSl 9 4 w * 4)) = true → pAdj 74 (0, 0, pSl 2 5 w, pSl 7 2 w * 64 + pSl 9 4 w * 4) = _)
    rw [ej]
    refine ⟨?_, fun _ => rfl⟩
    unfold pGood
    rw [show pHas 74 0 = false from by decide +kernel, show pHas 74 1 = false from by decide +kernel, show pHas 74 2 = true from by decide +kernel, show pHas 74 3 = true from by decide +kernel]
    simp only [Bool.not_true, Bool.not_false, Bool.false_or, Bool.true_or, Bool.and_true, Bool.true_and, Bool.and_eq_true, pReg_n (show pSho 74 2 = false from by decide +kernel), pImm_74, p4g_0, p4g_1, p4g_2, p4g_3]
    try simp only [sxt_6, sxt_9, sxt_10, sxt_12, sxt_13, sxt_21]
    repeat' split
    all_goals (first | omega | (simp; omega) | (simp; done))
  · rw [if_neg h]
    refine ⟨⟨fun q => (nomatch q), fun q => absurd (by exact q) h⟩, fun q => (nomatch q)⟩
end jKinds3
