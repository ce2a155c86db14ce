/-! the two machines' words: printed by gen_mdec.py -/
set_option maxRecDepth 100000
section jMdec
theorem sl07_4 (w : Int) : pSl 0 7 w % 4 = w % 4 := by
  unfold pSl
  show w / 1 % 128 % 4 = w % 4
  omega
theorem long_3 (w : Int) : ∀ (k : Nat), k < 48 → pTk k w = true → w % 4 = 3
  | 0, _, h => by have q := (pTk_0 w).1.mp h; have := sl07_4 w; omega
  | 1, _, h => by have q := (pTk_1 w).1.mp h; have := sl07_4 w; omega
  | 2, _, h => by have q := (pTk_2 w).1.mp h; have := sl07_4 w; omega
  | 3, _, h => by have q := (pTk_3 w).1.mp h; have := sl07_4 w; omega
  | 4, _, h => by have q := (pTk_4 w).1.mp h; have := sl07_4 w; omega
  | 5, _, h => by have q := (pTk_5 w).1.mp h; have := sl07_4 w; omega
  | 6, _, h => by have q := (pTk_6 w).1.mp h; have := sl07_4 w; omega
  | 7, _, h => by have q := (pTk_7 w).1.mp h; have := sl07_4 w; omega
  | 8, _, h => by have q := (pTk_8 w).1.mp h; have := sl07_4 w; omega
  | 9, _, h => by have q := (pTk_9 w).1.mp h; have := sl07_4 w; omega
  | 10, _, h => by have q := (pTk_10 w).1.mp h; have := sl07_4 w; omega
  | 11, _, h => by have q := (pTk_11 w).1.mp h; have := sl07_4 w; omega
  | 12, _, h => by have q := (pTk_12 w).1.mp h; have := sl07_4 w; omega
  | 13, _, h => by have q := (pTk_13 w).1.mp h; have := sl07_4 w; omega
  | 14, _, h => by have q := (pTk_14 w).1.mp h; have := sl07_4 w; omega
  | 15, _, h => by have q := (pTk_15 w).1.mp h; have := sl07_4 w; omega
  | 16, _, h => by have q := (pTk_16 w).1.mp h; have := sl07_4 w; omega
  | 17, _, h => by have q := (pTk_17 w).1.mp h; have := sl07_4 w; omega
  | 18, _, h => by have q := (pTk_18 w).1.mp h; have := sl07_4 w; omega
  | 19, _, h => by have q := (pTk_19 w).1.mp h; have := sl07_4 w; omega
  | 20, _, h => by have q := (pTk_20 w).1.mp h; have := sl07_4 w; omega
  | 21, _, h => by have q := (pTk_21 w).1.mp h; have := sl07_4 w; omega
  | 22, _, h => by have q := (pTk_22 w).1.mp h; have := sl07_4 w; omega
  | 23, _, h => by have q := (pTk_23 w).1.mp h; have := sl07_4 w; omega
  | 24, _, h => by have q := (pTk_24 w).1.mp h; have := sl07_4 w; omega
  | 25, _, h => by have q := (pTk_25 w).1.mp h; have := sl07_4 w; omega
  | 26, _, h => by have q := (pTk_26 w).1.mp h; have := sl07_4 w; omega
  | 27, _, h => by have q := (pTk_27 w).1.mp h; have := sl07_4 w; omega
  | 28, _, h => by have q := (pTk_28 w).1.mp h; have := sl07_4 w; omega
  | 29, _, h => by have q := (pTk_29 w).1.mp h; have := sl07_4 w; omega
  | 30, _, h => by have q := (pTk_30 w).1.mp h; have := sl07_4 w; omega
  | 31, _, h => by have q := (pTk_31 w).1.mp h; have := sl07_4 w; omega
  | 32, _, h => by have q := (pTk_32 w).1.mp h; have := sl07_4 w; omega
  | 33, _, h => by have q := (pTk_33 w).1.mp h; have := sl07_4 w; omega
  | 34, _, h => by have q := (pTk_34 w).1.mp h; have := sl07_4 w; omega
  | 35, _, h => by have q := (pTk_35 w).1.mp h; have := sl07_4 w; omega
  | 36, _, h => by have q := (pTk_36 w).1.mp h; have := sl07_4 w; omega
  | 37, _, h => by have q := (pTk_37 w).1.mp h; have := sl07_4 w; omega
  | 38, _, h => by have q := (pTk_38 w).1.mp h; have := sl07_4 w; omega
  | 39, _, h => by have q := (pTk_39 w).1.mp h; have := sl07_4 w; omega
  | 40, _, h => by have q := (pTk_40 w).1.mp h; have := sl07_4 w; omega
  | 41, _, h => by have q := (pTk_41 w).1.mp h; have := sl07_4 w; omega
  | 42, _, h => by have q := (pTk_42 w).1.mp h; have := sl07_4 w; omega
  | 43, _, h => by have q := (pTk_43 w).1.mp h; have := sl07_4 w; omega
  | 44, _, h => by have q := (pTk_44 w).1.mp h; have := sl07_4 w; omega
  | 45, _, h => by
    have q := (pTk_45 w).1.mp h
    unfold pSl at q
    have : w / 1 % 4294967296 = _ := q
    omega
  | 46, _, h => by
    have q := (pTk_46 w).1.mp h
    unfold pSl at q
    have : w / 1 % 4294967296 = _ := q
    omega
  | 47, _, h => by
    have q := (pTk_47 w).1.mp h
    unfold pSl at q
    have : w / 1 % 4294967296 = _ := q
    omega
  | n + 48, h, _ => absurd h (by omega)
/-- numbers that a word may have -/
def pOk (p : jP5) : Prop := (0 ≤ p.2.1 ∧ p.2.1 ≤ 31) ∧ (0 ≤ p.2.2.1 ∧ p.2.2.1 ≤ 31) ∧ (0 ≤ p.2.2.2.1 ∧ p.2.2.2.1 ≤ 31) ∧ (-1048576 ≤ p.2.2.2.2 ∧ p.2.2.2.2 ≤ 1048575) ∧ (p.1 = 2 ∨ 4 ≤ p.1 ∧ p.1 < 10 → p.2.2.2.2 % 2 = 0) ∧ -1 ≤ p.1 ∧ p.1 < 48
theorem cJal_b (w : Int) : -1048576 ≤ cJal w ∧ cJal w ≤ 1048575 ∧ cJal w % 2 = 0 := by
  have b1 : 0 ≤ pSl 12 8 w ∧ pSl 12 8 w < 256 := pSl_lo 12 8 w
  have b2 : 0 ≤ pSl 20 1 w ∧ pSl 20 1 w < 2 := pSl_lo 20 1 w
  have b3 : 0 ≤ pSl 21 10 w ∧ pSl 21 10 w < 1024 := pSl_lo 21 10 w
  have b4 : 0 ≤ pSl 31 1 w ∧ pSl 31 1 w < 2 := pSl_lo 31 1 w
  unfold cJal; rw [sxt_21]; split <;> omega
theorem cBr_b (w : Int) : -4096 ≤ cBr w ∧ cBr w ≤ 4095 ∧ cBr w % 2 = 0 := by
  have b1 : 0 ≤ pSl 7 1 w ∧ pSl 7 1 w < 2 := pSl_lo 7 1 w
  have b2 : 0 ≤ pSl 8 4 w ∧ pSl 8 4 w < 16 := pSl_lo 8 4 w
  have b3 : 0 ≤ pSl 25 6 w ∧ pSl 25 6 w < 64 := pSl_lo 25 6 w
  have b4 : 0 ≤ pSl 31 1 w ∧ pSl 31 1 w < 2 := pSl_lo 31 1 w
  unfold cBr; rw [sxt_13]; split <;> omega
theorem sx12_b (v : Int) (h0 : 0 ≤ v) (h1 : v < 4096) : -2048 ≤ sxt 12 v ∧ sxt 12 v ≤ 2047 := by rw [sxt_12]; split <;> omega
theorem cJmp_b (w : Int) : -2048 ≤ cJmp w ∧ cJmp w ≤ 2047 ∧ cJmp w % 2 = 0 := by
  have b1 : 0 ≤ pSl 2 1 w ∧ pSl 2 1 w < 2 := pSl_lo 2 1 w
  have b2 : 0 ≤ pSl 3 3 w ∧ pSl 3 3 w < 8 := pSl_lo 3 3 w
  have b3 : 0 ≤ pSl 6 1 w ∧ pSl 6 1 w < 2 := pSl_lo 6 1 w
  have b4 : 0 ≤ pSl 7 1 w ∧ pSl 7 1 w < 2 := pSl_lo 7 1 w
  have b5 : 0 ≤ pSl 8 1 w ∧ pSl 8 1 w < 2 := pSl_lo 8 1 w
  have b6 : 0 ≤ pSl 9 2 w ∧ pSl 9 2 w < 4 := pSl_lo 9 2 w
  have b7 : 0 ≤ pSl 11 1 w ∧ pSl 11 1 w < 2 := pSl_lo 11 1 w
  have b8 : 0 ≤ pSl 12 1 w ∧ pSl 12 1 w < 2 := pSl_lo 12 1 w
  unfold cJmp; rw [sxt_12]; split <;> omega
theorem cBrn_b (w : Int) : -256 ≤ cBrn w ∧ cBrn w ≤ 255 ∧ cBrn w % 2 = 0 := by
  have b1 : 0 ≤ pSl 2 1 w ∧ pSl 2 1 w < 2 := pSl_lo 2 1 w
  have b2 : 0 ≤ pSl 3 2 w ∧ pSl 3 2 w < 4 := pSl_lo 3 2 w
  have b3 : 0 ≤ pSl 5 2 w ∧ pSl 5 2 w < 4 := pSl_lo 5 2 w
  have b4 : 0 ≤ pSl 10 2 w ∧ pSl 10 2 w < 4 := pSl_lo 10 2 w
  have b5 : 0 ≤ pSl 12 1 w ∧ pSl 12 1 w < 2 := pSl_lo 12 1 w
  unfold cBrn; rw [sxt_9]; split <;> omega
theorem cFar_b (w : Int) : -512 ≤ cFar w ∧ cFar w ≤ 511 := by
  have b1 : 0 ≤ pSl 2 1 w ∧ pSl 2 1 w < 2 := pSl_lo 2 1 w
  have b2 : 0 ≤ pSl 3 2 w ∧ pSl 3 2 w < 4 := pSl_lo 3 2 w
  have b3 : 0 ≤ pSl 5 1 w ∧ pSl 5 1 w < 2 := pSl_lo 5 1 w
  have b4 : 0 ≤ pSl 6 1 w ∧ pSl 6 1 w < 2 := pSl_lo 6 1 w
  have b5 : 0 ≤ pSl 12 1 w ∧ pSl 12 1 w < 2 := pSl_lo 12 1 w
  unfold cFar; rw [sxt_10]; split <;> omega
theorem cSix_b (w : Int) : -32 ≤ cSix w ∧ cSix w ≤ 31 := by
  have b1 : 0 ≤ pSl 2 5 w ∧ pSl 2 5 w < 32 := pSl_lo 2 5 w
  have b5 : 0 ≤ pSl 12 1 w ∧ pSl 12 1 w < 2 := pSl_lo 12 1 w
  unfold cSix; rw [sxt_6]; split <;> omega
theorem cWord_b (w : Int) : 0 ≤ cWord w ∧ cWord w ≤ 127 := by
  have b1 : 0 ≤ pSl 5 1 w ∧ pSl 5 1 w < 2 := pSl_lo 5 1 w
  have b2 : 0 ≤ pSl 6 1 w ∧ pSl 6 1 w < 2 := pSl_lo 6 1 w
  have b3 : 0 ≤ pSl 10 3 w ∧ pSl 10 3 w < 8 := pSl_lo 10 3 w
  unfold cWord; omega
theorem cSm_b (w : Int) : 0 ≤ cSm w ∧ cSm w ≤ 1023 := by
  have b1 : 0 ≤ pSl 5 1 w ∧ pSl 5 1 w < 2 := pSl_lo 5 1 w
  have b2 : 0 ≤ pSl 6 1 w ∧ pSl 6 1 w < 2 := pSl_lo 6 1 w
  have b3 : 0 ≤ pSl 7 4 w ∧ pSl 7 4 w < 16 := pSl_lo 7 4 w
  have b4 : 0 ≤ pSl 11 2 w ∧ pSl 11 2 w < 4 := pSl_lo 11 2 w
  unfold cSm; omega
theorem cT2_b (w : Int) : 0 ≤ cT2 w ∧ cT2 w ≤ 255 := by
  have b1 : 0 ≤ pSl 2 2 w ∧ pSl 2 2 w < 4 := pSl_lo 2 2 w
  have b2 : 0 ≤ pSl 4 3 w ∧ pSl 4 3 w < 8 := pSl_lo 4 3 w
  have b3 : 0 ≤ pSl 12 1 w ∧ pSl 12 1 w < 2 := pSl_lo 12 1 w
  unfold cT2; omega
theorem cT6_b (w : Int) : 0 ≤ cT6 w ∧ cT6 w ≤ 255 := by
  have b1 : 0 ≤ pSl 7 2 w ∧ pSl 7 2 w < 4 := pSl_lo 7 2 w
  have b2 : 0 ≤ pSl 9 4 w ∧ pSl 9 4 w < 16 := pSl_lo 9 4 w
  unfold cT6; omega
theorem pOk_mk (k d a b i : Int) (hd : 0 ≤ d ∧ d ≤ 31) (ha : 0 ≤ a ∧ a ≤ 31) (hb : 0 ≤ b ∧ b ≤ 31) (hi : -1048576 ≤ i ∧ i ≤ 1048575) (he : k = 2 ∨ 4 ≤ k ∧ k < 10 → i % 2 = 0) (h0 : -1 ≤ k) (h1 : k < 48) : pOk (k, d, a, b, i) := ⟨hd, ha, hb, hi, he, h0, h1⟩
theorem cRow_b (t v : Int) (h0 : 0 ≤ t) (h1 : t ≤ 7) : (cRow t v = -1 ∨ 27 ≤ cRow t v) ∧ cRow t v < 48 := by
  unfold cRow
  repeat' split
  all_goals omega
theorem cLong_ok (w : Int) : pOk (cLong w) := by
  have b1 : 0 ≤ pSl 7 5 w ∧ pSl 7 5 w < 32 := pSl_lo 7 5 w
  have b2 : 0 ≤ pSl 15 5 w ∧ pSl 15 5 w < 32 := pSl_lo 15 5 w
  have b3 : 0 ≤ pSl 20 5 w ∧ pSl 20 5 w < 32 := pSl_lo 20 5 w
  have b4 : 0 ≤ pSl 12 3 w ∧ pSl 12 3 w < 8 := pSl_lo 12 3 w
  have b5 : 0 ≤ pSl 12 20 w ∧ pSl 12 20 w < 1048576 := pSl_lo 12 20 w
  have b6 : 0 ≤ pSl 20 12 w ∧ pSl 20 12 w < 4096 := pSl_lo 20 12 w
  have b7 : 0 ≤ pSl 25 7 w ∧ pSl 25 7 w < 128 := pSl_lo 25 7 w
  have c1 := cJal_b w
  have c2 := cBr_b w
  have c3 := sx12_b (pSl 20 12 w) b6.1 b6.2
  have c4 := sx12_b (pSl 7 5 w + pSl 25 7 w * 32) (by omega) (by omega)
  unfold cLong
  by_cases e : pSl 0 7 w = 3
  · rw [if_pos e]
    (refine pOk_mk _ _ _ _ _ (by omega) (by omega) (by omega) (by omega) ?_ ?_ ?_ <;> first | omega | (split <;> first | omega | (split <;> first | omega | (split <;> omega))))
  rw [if_neg e]
  by_cases e : pSl 0 7 w = 19
  · rw [if_pos e]
    unfold cSum
    by_cases e1 : pSl 12 3 w = 1
    · rw [if_pos e1]; (refine pOk_mk _ _ _ _ _ (by omega) (by omega) (by omega) (by omega) ?_ ?_ ?_ <;> first | omega | (split <;> first | omega | (split <;> first | omega | (split <;> omega))))
    rw [if_neg e1]
    by_cases e1 : pSl 12 3 w = 5
    · rw [if_pos e1]; (refine pOk_mk _ _ _ _ _ (by omega) (by omega) (by omega) (by omega) ?_ ?_ ?_ <;> first | omega | (split <;> first | omega | (split <;> first | omega | (split <;> omega))))
    rw [if_neg e1]; (refine pOk_mk _ _ _ _ _ (by omega) (by omega) (by omega) (by omega) ?_ ?_ ?_ <;> first | omega | (split <;> first | omega | (split <;> first | omega | (split <;> omega))))
  rw [if_neg e]
  by_cases e : pSl 0 7 w = 23
  · rw [if_pos e]
    (refine pOk_mk _ _ _ _ _ (by omega) (by omega) (by omega) (by omega) ?_ ?_ ?_ <;> first | omega | (split <;> first | omega | (split <;> first | omega | (split <;> omega))))
  rw [if_neg e]
  by_cases e : pSl 0 7 w = 35
  · rw [if_pos e]
    (refine pOk_mk _ _ _ _ _ (by omega) (by omega) (by omega) (by omega) ?_ ?_ ?_ <;> first | omega | (split <;> first | omega | (split <;> first | omega | (split <;> omega))))
  rw [if_neg e]
  by_cases e : pSl 0 7 w = 51
  · rw [if_pos e]
    have r1 := cRow_b (pSl 12 3 w) (pSl 25 7 w) b4.1 (by omega)
    exact pOk_mk _ _ _ _ _ (by omega) (by omega) (by omega) (by omega) (by omega) (by omega) (by omega)
  rw [if_neg e]
  by_cases e : pSl 0 7 w = 55
  · rw [if_pos e]
    (refine pOk_mk _ _ _ _ _ (by omega) (by omega) (by omega) (by omega) ?_ ?_ ?_ <;> first | omega | (split <;> first | omega | (split <;> first | omega | (split <;> omega))))
  rw [if_neg e]
  by_cases e : pSl 0 7 w = 99
  · rw [if_pos e]
    (refine pOk_mk _ _ _ _ _ (by omega) (by omega) (by omega) (by omega) ?_ ?_ ?_ <;> first | omega | (split <;> first | omega | (split <;> first | omega | (split <;> omega))))
  rw [if_neg e]
  by_cases e : pSl 0 7 w = 103
  · rw [if_pos e]
    (refine pOk_mk _ _ _ _ _ (by omega) (by omega) (by omega) (by omega) ?_ ?_ ?_ <;> first | omega | (split <;> first | omega | (split <;> first | omega | (split <;> omega))))
  rw [if_neg e]
  by_cases e : pSl 0 7 w = 111
  · rw [if_pos e]
    (refine pOk_mk _ _ _ _ _ (by omega) (by omega) (by omega) (by omega) ?_ ?_ ?_ <;> first | omega | (split <;> first | omega | (split <;> first | omega | (split <;> omega))))
  rw [if_neg e]
  (refine pOk_mk _ _ _ _ _ (by omega) (by omega) (by omega) (by omega) ?_ ?_ ?_ <;> first | omega | (split <;> first | omega | (split <;> first | omega | (split <;> omega))))
theorem cShort_ok (r : jP4) (w : Int) (h : ¬ (cShort r w).1 = -1) : pOk (cShort r w) := by
  have b1 : 0 ≤ pSl 7 5 w ∧ pSl 7 5 w < 32 := pSl_lo 7 5 w
  have b2 : 0 ≤ pSl 7 3 w ∧ pSl 7 3 w < 8 := pSl_lo 7 3 w
  have b3 : 0 ≤ pSl 2 3 w ∧ pSl 2 3 w < 8 := pSl_lo 2 3 w
  have b4 : 0 ≤ pSl 2 5 w ∧ pSl 2 5 w < 32 := pSl_lo 2 5 w
  have b5 : 0 ≤ pSl 5 2 w ∧ pSl 5 2 w < 4 := pSl_lo 5 2 w
  have b6 : 0 ≤ pSl 10 2 w ∧ pSl 10 2 w < 4 := pSl_lo 10 2 w
  have c1 := cJmp_b w
  have c2 := cBrn_b w
  have c3 := cFar_b w
  have c4 := cSix_b w
  have c5 := cWord_b w
  have c6 := cSm_b w
  have c7 := cT2_b w
  have c8 := cT6_b w
  unfold cShort at h ⊢
  by_cases a0 : pSl 0 2 w = 0
  · rw [if_pos a0] at h ⊢
    unfold cFirst at h ⊢
    by_cases e0 : pSl 13 3 w = 0
    · rw [if_pos e0] at h ⊢
      exact pOk_mk _ _ _ _ _ (by omega) (by omega) (by omega) (by omega) (by split <;> omega) (by split <;> omega) (by split <;> omega)
    rw [if_neg e0] at h ⊢
    by_cases e0 : pSl 13 3 w = 2
    · rw [if_pos e0] at h ⊢
      exact pOk_mk _ _ _ _ _ (by omega) (by omega) (by omega) (by omega) (by omega) (by omega) (by omega)
    rw [if_neg e0] at h ⊢
    by_cases e0 : pSl 13 3 w = 6
    · rw [if_pos e0] at h ⊢
      exact pOk_mk _ _ _ _ _ (by omega) (by omega) (by omega) (by omega) (by omega) (by omega) (by omega)
    rw [if_neg e0] at h
    exact absurd rfl h
  rw [if_neg a0] at h ⊢
  by_cases a1 : pSl 0 2 w = 1
  · rw [if_pos a1] at h ⊢
    unfold cSecond
    clear h
    by_cases e : pSl 13 3 w = 0
    · rw [if_pos e]
      (refine pOk_mk _ _ _ _ _ (by omega) (by omega) (by omega) (by omega) ?_ ?_ ?_ <;> first | omega | (split <;> first | omega | (split <;> first | omega | (split <;> omega))))
    rw [if_neg e]
    by_cases e : pSl 13 3 w = 1
    · rw [if_pos e]
      (refine pOk_mk _ _ _ _ _ (by omega) (by omega) (by omega) (by omega) ?_ ?_ ?_ <;> first | omega | (split <;> first | omega | (split <;> first | omega | (split <;> omega))))
    rw [if_neg e]
    by_cases e : pSl 13 3 w = 2
    · rw [if_pos e]
      (refine pOk_mk _ _ _ _ _ (by omega) (by omega) (by omega) (by omega) ?_ ?_ ?_ <;> first | omega | (split <;> first | omega | (split <;> first | omega | (split <;> omega))))
    rw [if_neg e]
    by_cases e : pSl 13 3 w = 3
    · rw [if_pos e]
      by_cases e1 : pSl 7 5 w = 2
      · rw [if_pos e1]; (refine pOk_mk _ _ _ _ _ (by omega) (by omega) (by omega) (by omega) ?_ ?_ ?_ <;> first | omega | (split <;> first | omega | (split <;> first | omega | (split <;> omega))))
      rw [if_neg e1]; (refine pOk_mk _ _ _ _ _ (by omega) (by omega) (by omega) (by omega) ?_ ?_ ?_ <;> first | omega | (split <;> first | omega | (split <;> first | omega | (split <;> omega))))
    rw [if_neg e]
    by_cases e : pSl 13 3 w = 4
    · rw [if_pos e]
      unfold cPairs
      by_cases e1 : pSl 10 2 w < 2
      · rw [if_pos e1]; (refine pOk_mk _ _ _ _ _ (by omega) (by omega) (by omega) (by omega) ?_ ?_ ?_ <;> first | omega | (split <;> first | omega | (split <;> first | omega | (split <;> omega))))
      rw [if_neg e1]
      by_cases e1 : pSl 10 2 w = 2
      · rw [if_pos e1]; (refine pOk_mk _ _ _ _ _ (by omega) (by omega) (by omega) (by omega) ?_ ?_ ?_ <;> first | omega | (split <;> first | omega | (split <;> first | omega | (split <;> omega))))
      rw [if_neg e1]; (refine pOk_mk _ _ _ _ _ (by omega) (by omega) (by omega) (by omega) ?_ ?_ ?_ <;> first | omega | (split <;> first | omega | (split <;> first | omega | (split <;> omega))))
    rw [if_neg e]
    by_cases e : pSl 13 3 w = 5
    · rw [if_pos e]
      (refine pOk_mk _ _ _ _ _ (by omega) (by omega) (by omega) (by omega) ?_ ?_ ?_ <;> first | omega | (split <;> first | omega | (split <;> first | omega | (split <;> omega))))
    rw [if_neg e]
    by_cases e : pSl 13 3 w = 6
    · rw [if_pos e]
      (refine pOk_mk _ _ _ _ _ (by omega) (by omega) (by omega) (by omega) ?_ ?_ ?_ <;> first | omega | (split <;> first | omega | (split <;> first | omega | (split <;> omega))))
    rw [if_neg e]
    (refine pOk_mk _ _ _ _ _ (by omega) (by omega) (by omega) (by omega) ?_ ?_ ?_ <;> first | omega | (split <;> first | omega | (split <;> first | omega | (split <;> omega))))
  rw [if_neg a1] at h ⊢
  unfold cThird at h ⊢
  by_cases e0 : pSl 13 3 w = 0
  · rw [if_pos e0] at h ⊢
    exact pOk_mk _ _ _ _ _ (by omega) (by omega) (by omega) (by omega) (by split <;> omega) (by split <;> omega) (by split <;> omega)
  rw [if_neg e0] at h ⊢
  by_cases e0 : pSl 13 3 w = 2
  · rw [if_pos e0] at h ⊢
    exact pOk_mk _ _ _ _ _ (by omega) (by omega) (by omega) (by omega) (by split <;> omega) (by split <;> omega) (by split <;> omega)
  rw [if_neg e0] at h ⊢
  by_cases e0 : pSl 13 3 w = 4
  · rw [if_pos e0] at h ⊢
    clear h
    by_cases e1 : pSl 2 5 w = 0
    · rw [if_pos e1]
      by_cases e2 : pSl 7 5 w = 0
      · rw [if_pos e2]; (refine pOk_mk _ _ _ _ _ (by omega) (by omega) (by omega) (by omega) ?_ ?_ ?_ <;> first | omega | (split <;> first | omega | (split <;> first | omega | (split <;> omega))))
      rw [if_neg e2]; refine pOk_mk _ _ _ _ _ (by omega) (by omega) (by omega) (by omega) (by omega) (by omega) (by omega)
    rw [if_neg e1]
    refine pOk_mk _ _ _ _ _ (by omega) (by split <;> omega) (by omega) (by omega) (by split <;> omega) (by split <;> omega) (by split <;> omega)
  rw [if_neg e0] at h ⊢
  by_cases e0 : pSl 13 3 w = 6
  · rw [if_pos e0] at h ⊢
    exact pOk_mk _ _ _ _ _ (by omega) (by omega) (by omega) (by omega) (by omega) (by omega) (by omega)
  rw [if_neg e0] at h
  exact absurd rfl h
theorem pLK_lt : ∀ (k : Nat), 48 ≤ k → k < 75 → pLK k < 48
  | 48, _, _ => by decide
  | 49, _, _ => by decide
  | 50, _, _ => by decide
  | 51, _, _ => by decide
  | 52, _, _ => by decide
  | 53, _, _ => by decide
  | 54, _, _ => by decide
  | 55, _, _ => by decide
  | 56, _, _ => by decide
  | 57, _, _ => by decide
  | 58, _, _ => by decide
  | 59, _, _ => by decide
  | 60, _, _ => by decide
  | 61, _, _ => by decide
  | 62, _, _ => by decide
  | 63, _, _ => by decide
  | 64, _, _ => by decide
  | 65, _, _ => by decide
  | 66, _, _ => by decide
  | 67, _, _ => by decide
  | 68, _, _ => by decide
  | 69, _, _ => by decide
  | 70, _, _ => by decide
  | 71, _, _ => by decide
  | 72, _, _ => by decide
  | 73, _, _ => by decide
  | 74, _, _ => by decide
  | n + 75, _, h => absurd h (by omega)
  | 0, h, _ => absurd h (by omega)
  | 1, h, _ => absurd h (by omega)
  | 2, h, _ => absurd h (by omega)
  | 3, h, _ => absurd h (by omega)
  | 4, h, _ => absurd h (by omega)
  | 5, h, _ => absurd h (by omega)
  | 6, h, _ => absurd h (by omega)
  | 7, h, _ => absurd h (by omega)
  | 8, h, _ => absurd h (by omega)
  | 9, h, _ => absurd h (by omega)
  | 10, h, _ => absurd h (by omega)
  | 11, h, _ => absurd h (by omega)
  | 12, h, _ => absurd h (by omega)
  | 13, h, _ => absurd h (by omega)
  | 14, h, _ => absurd h (by omega)
  | 15, h, _ => absurd h (by omega)
  | 16, h, _ => absurd h (by omega)
  | 17, h, _ => absurd h (by omega)
  | 18, h, _ => absurd h (by omega)
  | 19, h, _ => absurd h (by omega)
  | 20, h, _ => absurd h (by omega)
  | 21, h, _ => absurd h (by omega)
  | 22, h, _ => absurd h (by omega)
  | 23, h, _ => absurd h (by omega)
  | 24, h, _ => absurd h (by omega)
  | 25, h, _ => absurd h (by omega)
  | 26, h, _ => absurd h (by omega)
  | 27, h, _ => absurd h (by omega)
  | 28, h, _ => absurd h (by omega)
  | 29, h, _ => absurd h (by omega)
  | 30, h, _ => absurd h (by omega)
  | 31, h, _ => absurd h (by omega)
  | 32, h, _ => absurd h (by omega)
  | 33, h, _ => absurd h (by omega)
  | 34, h, _ => absurd h (by omega)
  | 35, h, _ => absurd h (by omega)
  | 36, h, _ => absurd h (by omega)
  | 37, h, _ => absurd h (by omega)
  | 38, h, _ => absurd h (by omega)
  | 39, h, _ => absurd h (by omega)
  | 40, h, _ => absurd h (by omega)
  | 41, h, _ => absurd h (by omega)
  | 42, h, _ => absurd h (by omega)
  | 43, h, _ => absurd h (by omega)
  | 44, h, _ => absurd h (by omega)
  | 45, h, _ => absurd h (by omega)
  | 46, h, _ => absurd h (by omega)
  | 47, h, _ => absurd h (by omega)
/-- what a word is -/
def cDec (r : jP4) (w : Int) : jP5 := if w % 4 = 3 then cLong w else cShort r w
theorem cDec_ok (r : jP4) (w : Int) (h : ¬ (cDec r w).1 = -1) : pOk (cDec r w) := by
  unfold cDec at h ⊢
  by_cases e : w % 4 = 3
  · rw [if_pos e]; exact cLong_ok w
  · rw [if_neg e] at h ⊢; exact cShort_ok r w h
theorem jp_jp (s : jS) (c a k v w : Int) : jp (jp s c a k v) c a k w = jp s c a k w := by
  refine jS_eq (s := s) jSm.rfl jSm.rfl fun c' a' k' => ?_
  simp only [jf_jp]
  split <;> rfl
theorem pw4_Sm (s : jS) (u : Int) (p : jP4) : jSm s (pw4 s u p) := jSm.rfl
theorem jp_pw4 (s : jS) (u : Int) (p : jP4) (c a k v : Int) (h : ¬ c = 1000) : jp (pw4 s u p) c a k v = pw4 (jp s c a k v) u p := by
  refine jS_eq (s := s) jSm.rfl jSm.rfl fun c' a' k' => ?_
  simp only [jf_jp, jf_pw4]
  repeat' split
  all_goals first | rfl | (exfalso; omega)
theorem jp_47 (t : jS) (U k v : Int) : jf (jp t 47 U k v) 47 U k = v := by rw [jf_jp, if_pos ⟨rfl, rfl, rfl⟩]
theorem pRows_jp {t : jS} {a b k v : Int} (h : pRows t a) : pRows (jp t 47 b k v) a := fun i h0 h1 => by
  rw [jf_jp, if_neg (by omega)]; exact h i h0 h1
/-- the twin's search -/
theorem s_isF107 (t : jS) (U w : Int) (r : jP4) (hR : pRows t (U + 1)) (hw : -2147483648 ≤ w ∧ w ≤ 2147483647) (hs : ¬ w % 4 = 3 → 0 ≤ w ∧ w < 65536) :
    ((cDec r w).1 = -1 ∧ ∃ q, u_X43_isFetched_107 t U w = (m_X43_fail (jp (pw4 t (U + 2) q) 47 U 26 (-1)) U 2 (jf t 47 U 11)).bind fun q3 => some (q3.1, Wz 0)) ∨
    (¬ (cDec r w).1 = -1 ∧ u_X43_isFetched_107 t U w = some (jp (pw4 t (U + 2) (cDec r w).2) 47 U 26 (cDec r w).1, Wz 1)) := by
  simp only [em_X43_isFetched, dm_X43_isFetched, eu_X43_isFetched_107, du_X43_isFetched_107, eu_X43_isFetched_57, du_X43_isFetched_57]
  obtain ⟨q, k, hf, h⟩ := s_X43_find t U w hR hw
  rw [hf]
  simp only [Option.bind_some, jls, jp_47]
  rcases h with ⟨k0, k1, k2, k3, k4, k5⟩ | ⟨k1, k2⟩
  · have hk : k = (k.toNat : Int) := by omega
    generalize k.toNat = n at *
    subst hk
    rw [if_neg (by omega)]
    by_cases e : w % 4 = 3
    · rw [if_pos e] at k1 k2
      rw [if_pos (by omega)]
      have e1 : cDec r w = ((n : Int), q) := by unfold cDec; rw [if_pos e, k4]; exact cLong_k w hw n (by omega) k3
      rw [e1]
      exact .inr ⟨by show ¬ (n : Int) = -1; omega, rfl⟩
    · rw [if_neg e] at k1 k2
      obtain ⟨w0, w1⟩ := hs e
      rw [if_neg (by omega), jp_pw4 _ _ _ _ _ _ _ (by decide), s_stretch_k _ U q n (by omega) (by omega)]
      have e1 : cDec r w = ((pLK n : Int), pStr n q) := by unfold cDec; rw [if_neg e, k4]; exact cShort_k r w w0 w1 n (by omega) (by omega) k3
      obtain ⟨g1, g2, g3⟩ := st_k w n (by omega) (by omega) k3
      rw [← k4] at g1 g2 g3
      have hL : pLK n < 48 := pLK_lt n (by omega) (by omega)
      rw [s_X43_put _ _ _ _ (pRows_jp hR) (by omega) (by omega) g3]
      simp only [Option.bind_some, Int.toNat_natCast]
      have hlr : -2147483648 ≤ pPut (pLK n) (pStr n q) ∧ pPut (pLK n) (pStr n q) ≤ 2147483647 := by unfold pPut; exact W32_lo _
      obtain ⟨q2, k', hf2, h2⟩ := s_X43_find (pw4 (jp t 47 U 26 (n : Int)) (U + 2) (pStr n q)) U (pPut (pLK n) (pStr n q)) (pRows_pw4 (pRows_jp hR) (by omega)) hlr
      have h43 := long_3 _ _ hL g1
      rw [if_pos h43, if_pos h43] at h2
      rw [hf2]
      simp only [Option.bind_some, pw4_pw4]
      rcases h2 with ⟨l0, l1, l2, l3, l4, l5⟩ | ⟨l1, l2⟩
      · have hk' : k' = (k'.toNat : Int) := by omega
        have e2 : k'.toNat = pLK n := pTk_one hlr (by omega) hL l3 g1
        rw [e2] at hk' l4
        rw [hk', l4, g2, e1]
        refine .inr ⟨by show ¬ ((pLK n : Nat) : Int) = -1; omega, ?_⟩
        rw [jp_pw4 _ _ _ _ _ _ _ (by decide), jp_jp, ← jp_pw4 _ _ _ _ _ _ _ (by decide)]
      · exact absurd g1 (l2 (pLK n : Int) (by omega) (by omega))
  · subst k1
    rw [if_pos rfl]
    refine .inl ⟨?_, q, ?_⟩
    · by_cases e : w % 4 = 3
      · rw [if_pos e, if_pos e] at k2
        unfold cDec; rw [if_pos e]
        refine cLong_no w hw fun k hk => ?_
        have := k2 (k : Int) (by omega) (by omega)
        simpa using this
      · rw [if_neg e, if_neg e] at k2
        obtain ⟨w0, w1⟩ := hs e
        unfold cDec; rw [if_neg e]
        refine cShort_no r w w0 w1 ?_ fun k hk hk' => ?_
        · unfold pSl
          show ¬ w / 1 % 4 = 3
          omega
        · have := k2 (k : Int) (by omega) (by omega)
          simpa using this
    · have e : jf (jp (pw4 t (U + 2) q) 47 U 26 (-1)) 47 U 11 = jf t 47 U 11 := by rw [jf_jp, if_neg (by omega), jf_pw4, if_neg (by omega)]
      rw [e]
end jMdec
