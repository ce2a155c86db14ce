/-! short kinds: printed by gen_short.py -/
set_option maxRecDepth 100000
section jShort
/-- the one short kind that may fit -/
def clsS (w : Int) : Int :=
  if pSl 0 2 w = 0 then (if pSl 13 3 w = 0 then 48 else if pSl 13 3 w = 2 then 49 else 50)
  else if pSl 0 2 w = 1 then (if pSl 13 3 w = 0 then (if pSl 7 5 w = 0 then 51 else 52) else if pSl 13 3 w = 1 then 53 else if pSl 13 3 w = 2 then 54 else if pSl 13 3 w = 3 then (if pSl 7 5 w = 2 then 55 else 56) else if pSl 13 3 w = 4 then (if pSl 10 2 w = 0 then 57 else if pSl 10 2 w = 1 then 58 else if pSl 10 2 w = 2 then 59 else 60 + pSl 5 2 w) else if pSl 13 3 w = 5 then 64 else if pSl 13 3 w = 6 then 65 else 66)
  else (if pSl 13 3 w = 0 then 67 else if pSl 13 3 w = 2 then 68 else if pSl 13 3 w = 4 then (if pSl 2 5 w = 0 then (if pSl 12 1 w = 0 then 69 else if pSl 7 5 w = 0 then 71 else 72) else if pSl 12 1 w = 0 then 70 else 73) else 74)
theorem clsS_48 (w : Int) (h0 : 0 ≤ w) (h1 : w < 65536) (h : pTk 48 w = true) : clsS w = 48 := by
  have h := (pTk_48 w).1.mp h
  obtain ⟨b1, b2, b3, b4, b5, b6, b7⟩ := sl_b w
  have c1 := sl07 w
  have c2 := sl106 w
  have c3 := sl124 w
  have e0_2 : pSl 0 2 w = 0 := by omega
  have e13_3 : pSl 13 3 w = 0 := by omega
  simp [clsS, e0_2, e13_3]
theorem clsS_49 (w : Int) (h0 : 0 ≤ w) (h1 : w < 65536) (h : pTk 49 w = true) : clsS w = 49 := by
  have h := (pTk_49 w).1.mp h
  obtain ⟨b1, b2, b3, b4, b5, b6, b7⟩ := sl_b w
  have c1 := sl07 w
  have c2 := sl106 w
  have c3 := sl124 w
  have e0_2 : pSl 0 2 w = 0 := by omega
  have e13_3 : pSl 13 3 w = 2 := by omega
  simp [clsS, e0_2, e13_3]
theorem clsS_50 (w : Int) (h0 : 0 ≤ w) (h1 : w < 65536) (h : pTk 50 w = true) : clsS w = 50 := by
  have h := (pTk_50 w).1.mp h
  obtain ⟨b1, b2, b3, b4, b5, b6, b7⟩ := sl_b w
  have c1 := sl07 w
  have c2 := sl106 w
  have c3 := sl124 w
  have e0_2 : pSl 0 2 w = 0 := by omega
  have e13_3 : pSl 13 3 w = 6 := by omega
  simp [clsS, e0_2, e13_3]
theorem clsS_51 (w : Int) (h0 : 0 ≤ w) (h1 : w < 65536) (h : pTk 51 w = true) : clsS w = 51 := by
  have h := (pTk_51 w).1.mp h
  rw [sl016 h0 h1] at h
  subst h
  decide
theorem clsS_52 (w : Int) (h0 : 0 ≤ w) (h1 : w < 65536) (h : pTk 52 w = true) : clsS w = 52 := by
  have h := (pTk_52 w).1.mp h
  obtain ⟨b1, b2, b3, b4, b5, b6, b7⟩ := sl_b w
  have c1 := sl07 w
  have c2 := sl106 w
  have c3 := sl124 w
  have e0_2 : pSl 0 2 w = 1 := by omega
  have e13_3 : pSl 13 3 w = 0 := by omega
  have n0 : ¬ pSl 7 5 w = 0 := by simp only [h, not_false_eq_true, and_self]
  simp [clsS, e0_2, e13_3, n0]
theorem clsS_53 (w : Int) (h0 : 0 ≤ w) (h1 : w < 65536) (h : pTk 53 w = true) : clsS w = 53 := by
  have h := (pTk_53 w).1.mp h
  obtain ⟨b1, b2, b3, b4, b5, b6, b7⟩ := sl_b w
  have c1 := sl07 w
  have c2 := sl106 w
  have c3 := sl124 w
  have e0_2 : pSl 0 2 w = 1 := by omega
  have e13_3 : pSl 13 3 w = 1 := by omega
  simp [clsS, e0_2, e13_3]
theorem clsS_54 (w : Int) (h0 : 0 ≤ w) (h1 : w < 65536) (h : pTk 54 w = true) : clsS w = 54 := by
  have h := (pTk_54 w).1.mp h
  obtain ⟨b1, b2, b3, b4, b5, b6, b7⟩ := sl_b w
  have c1 := sl07 w
  have c2 := sl106 w
  have c3 := sl124 w
  have e0_2 : pSl 0 2 w = 1 := by omega
  have e13_3 : pSl 13 3 w = 2 := by omega
  have n0 : ¬ pSl 7 5 w = 0 := by simp only [h, not_false_eq_true, and_self]
  simp [clsS, e0_2, e13_3, n0]
theorem clsS_55 (w : Int) (h0 : 0 ≤ w) (h1 : w < 65536) (h : pTk 55 w = true) : clsS w = 55 := by
  have h := (pTk_55 w).1.mp h
  obtain ⟨b1, b2, b3, b4, b5, b6, b7⟩ := sl_b w
  have c1 := sl07 w
  have c2 := sl106 w
  have c3 := sl124 w
  have e0_2 : pSl 0 2 w = 1 := by omega
  have e7_5 : pSl 7 5 w = 2 := by omega
  have e13_3 : pSl 13 3 w = 3 := by omega
  simp [clsS, e0_2, e7_5, e13_3]
theorem clsS_56 (w : Int) (h0 : 0 ≤ w) (h1 : w < 65536) (h : pTk 56 w = true) : clsS w = 56 := by
  have h := (pTk_56 w).1.mp h
  obtain ⟨b1, b2, b3, b4, b5, b6, b7⟩ := sl_b w
  have c1 := sl07 w
  have c2 := sl106 w
  have c3 := sl124 w
  have e0_2 : pSl 0 2 w = 1 := by omega
  have e13_3 : pSl 13 3 w = 3 := by omega
  have n0 : ¬ pSl 7 5 w = 0 := by simp only [h, not_false_eq_true, and_self]
  have n1 : ¬ pSl 7 5 w = 2 := by simp only [h, not_false_eq_true, and_self]
  simp [clsS, e0_2, e13_3, n0, n1]
theorem clsS_57 (w : Int) (h0 : 0 ≤ w) (h1 : w < 65536) (h : pTk 57 w = true) : clsS w = 57 := by
  have h := (pTk_57 w).1.mp h
  obtain ⟨b1, b2, b3, b4, b5, b6, b7⟩ := sl_b w
  have c1 := sl07 w
  have c2 := sl106 w
  have c3 := sl124 w
  have e0_2 : pSl 0 2 w = 1 := by omega
  have e10_2 : pSl 10 2 w = 0 := by omega
  have e12_1 : pSl 12 1 w = 0 := by omega
  have e13_3 : pSl 13 3 w = 4 := by omega
  have n0 : ¬ pSl 2 5 w = 0 := by simp only [h, not_false_eq_true, and_self]
  simp [clsS, e0_2, e10_2, e12_1, e13_3, n0]
theorem clsS_58 (w : Int) (h0 : 0 ≤ w) (h1 : w < 65536) (h : pTk 58 w = true) : clsS w = 58 := by
  have h := (pTk_58 w).1.mp h
  obtain ⟨b1, b2, b3, b4, b5, b6, b7⟩ := sl_b w
  have c1 := sl07 w
  have c2 := sl106 w
  have c3 := sl124 w
  have e0_2 : pSl 0 2 w = 1 := by omega
  have e10_2 : pSl 10 2 w = 1 := by omega
  have e12_1 : pSl 12 1 w = 0 := by omega
  have e13_3 : pSl 13 3 w = 4 := by omega
  have n0 : ¬ pSl 2 5 w = 0 := by simp only [h, not_false_eq_true, and_self]
  simp [clsS, e0_2, e10_2, e12_1, e13_3, n0]
theorem clsS_59 (w : Int) (h0 : 0 ≤ w) (h1 : w < 65536) (h : pTk 59 w = true) : clsS w = 59 := by
  have h := (pTk_59 w).1.mp h
  obtain ⟨b1, b2, b3, b4, b5, b6, b7⟩ := sl_b w
  have c1 := sl07 w
  have c2 := sl106 w
  have c3 := sl124 w
  have e0_2 : pSl 0 2 w = 1 := by omega
  have e10_2 : pSl 10 2 w = 2 := by omega
  have e13_3 : pSl 13 3 w = 4 := by omega
  simp [clsS, e0_2, e10_2, e13_3]
theorem clsS_60 (w : Int) (h0 : 0 ≤ w) (h1 : w < 65536) (h : pTk 60 w = true) : clsS w = 60 := by
  have h := (pTk_60 w).1.mp h
  obtain ⟨b1, b2, b3, b4, b5, b6, b7⟩ := sl_b w
  have c1 := sl07 w
  have c2 := sl106 w
  have c3 := sl124 w
  have e0_2 : pSl 0 2 w = 1 := by omega
  have e5_2 : pSl 5 2 w = 0 := by omega
  have e10_2 : pSl 10 2 w = 3 := by omega
  have e12_1 : pSl 12 1 w = 0 := by omega
  have e13_3 : pSl 13 3 w = 4 := by omega
  simp [clsS, e0_2, e5_2, e10_2, e12_1, e13_3]
theorem clsS_61 (w : Int) (h0 : 0 ≤ w) (h1 : w < 65536) (h : pTk 61 w = true) : clsS w = 61 := by
  have h := (pTk_61 w).1.mp h
  obtain ⟨b1, b2, b3, b4, b5, b6, b7⟩ := sl_b w
  have c1 := sl07 w
  have c2 := sl106 w
  have c3 := sl124 w
  have e0_2 : pSl 0 2 w = 1 := by omega
  have e5_2 : pSl 5 2 w = 1 := by omega
  have e10_2 : pSl 10 2 w = 3 := by omega
  have e12_1 : pSl 12 1 w = 0 := by omega
  have e13_3 : pSl 13 3 w = 4 := by omega
  simp [clsS, e0_2, e5_2, e10_2, e12_1, e13_3]
theorem clsS_62 (w : Int) (h0 : 0 ≤ w) (h1 : w < 65536) (h : pTk 62 w = true) : clsS w = 62 := by
  have h := (pTk_62 w).1.mp h
  obtain ⟨b1, b2, b3, b4, b5, b6, b7⟩ := sl_b w
  have c1 := sl07 w
  have c2 := sl106 w
  have c3 := sl124 w
  have e0_2 : pSl 0 2 w = 1 := by omega
  have e5_2 : pSl 5 2 w = 2 := by omega
  have e10_2 : pSl 10 2 w = 3 := by omega
  have e12_1 : pSl 12 1 w = 0 := by omega
  have e13_3 : pSl 13 3 w = 4 := by omega
  simp [clsS, e0_2, e5_2, e10_2, e12_1, e13_3]
theorem clsS_63 (w : Int) (h0 : 0 ≤ w) (h1 : w < 65536) (h : pTk 63 w = true) : clsS w = 63 := by
  have h := (pTk_63 w).1.mp h
  obtain ⟨b1, b2, b3, b4, b5, b6, b7⟩ := sl_b w
  have c1 := sl07 w
  have c2 := sl106 w
  have c3 := sl124 w
  have e0_2 : pSl 0 2 w = 1 := by omega
  have e5_2 : pSl 5 2 w = 3 := by omega
  have e10_2 : pSl 10 2 w = 3 := by omega
  have e12_1 : pSl 12 1 w = 0 := by omega
  have e13_3 : pSl 13 3 w = 4 := by omega
  simp [clsS, e0_2, e5_2, e10_2, e12_1, e13_3]
theorem clsS_64 (w : Int) (h0 : 0 ≤ w) (h1 : w < 65536) (h : pTk 64 w = true) : clsS w = 64 := by
  have h := (pTk_64 w).1.mp h
  obtain ⟨b1, b2, b3, b4, b5, b6, b7⟩ := sl_b w
  have c1 := sl07 w
  have c2 := sl106 w
  have c3 := sl124 w
  have e0_2 : pSl 0 2 w = 1 := by omega
  have e13_3 : pSl 13 3 w = 5 := by omega
  simp [clsS, e0_2, e13_3]
theorem clsS_65 (w : Int) (h0 : 0 ≤ w) (h1 : w < 65536) (h : pTk 65 w = true) : clsS w = 65 := by
  have h := (pTk_65 w).1.mp h
  obtain ⟨b1, b2, b3, b4, b5, b6, b7⟩ := sl_b w
  have c1 := sl07 w
  have c2 := sl106 w
  have c3 := sl124 w
  have e0_2 : pSl 0 2 w = 1 := by omega
  have e13_3 : pSl 13 3 w = 6 := by omega
  simp [clsS, e0_2, e13_3]
theorem clsS_66 (w : Int) (h0 : 0 ≤ w) (h1 : w < 65536) (h : pTk 66 w = true) : clsS w = 66 := by
  have h := (pTk_66 w).1.mp h
  obtain ⟨b1, b2, b3, b4, b5, b6, b7⟩ := sl_b w
  have c1 := sl07 w
  have c2 := sl106 w
  have c3 := sl124 w
  have e0_2 : pSl 0 2 w = 1 := by omega
  have e13_3 : pSl 13 3 w = 7 := by omega
  simp [clsS, e0_2, e13_3]
theorem clsS_67 (w : Int) (h0 : 0 ≤ w) (h1 : w < 65536) (h : pTk 67 w = true) : clsS w = 67 := by
  have h := (pTk_67 w).1.mp h
  obtain ⟨b1, b2, b3, b4, b5, b6, b7⟩ := sl_b w
  have c1 := sl07 w
  have c2 := sl106 w
  have c3 := sl124 w
  have e0_2 : pSl 0 2 w = 2 := by omega
  have e12_1 : pSl 12 1 w = 0 := by omega
  have e13_3 : pSl 13 3 w = 0 := by omega
  have n0 : ¬ pSl 7 5 w = 0 := by simp only [h, not_false_eq_true, and_self]
  have n1 : ¬ pSl 2 5 w = 0 := by simp only [h, not_false_eq_true, and_self]
  simp [clsS, e0_2, e12_1, e13_3, n0, n1]
theorem clsS_68 (w : Int) (h0 : 0 ≤ w) (h1 : w < 65536) (h : pTk 68 w = true) : clsS w = 68 := by
  have h := (pTk_68 w).1.mp h
  obtain ⟨b1, b2, b3, b4, b5, b6, b7⟩ := sl_b w
  have c1 := sl07 w
  have c2 := sl106 w
  have c3 := sl124 w
  have e0_2 : pSl 0 2 w = 2 := by omega
  have e13_3 : pSl 13 3 w = 2 := by omega
  have n0 : ¬ pSl 7 5 w = 0 := by simp only [h, not_false_eq_true, and_self]
  simp [clsS, e0_2, e13_3, n0]
theorem clsS_69 (w : Int) (h0 : 0 ≤ w) (h1 : w < 65536) (h : pTk 69 w = true) : clsS w = 69 := by
  have h := (pTk_69 w).1.mp h
  obtain ⟨b1, b2, b3, b4, b5, b6, b7⟩ := sl_b w
  have c1 := sl07 w
  have c2 := sl106 w
  have c3 := sl124 w
  have e0_2 : pSl 0 2 w = 2 := by omega
  have e2_5 : pSl 2 5 w = 0 := by omega
  have e12_1 : pSl 12 1 w = 0 := by omega
  have e13_3 : pSl 13 3 w = 4 := by omega
  have n0 : ¬ pSl 7 5 w = 0 := by simp only [h, not_false_eq_true, and_self]
  simp [clsS, e0_2, e2_5, e12_1, e13_3, n0]
theorem clsS_70 (w : Int) (h0 : 0 ≤ w) (h1 : w < 65536) (h : pTk 70 w = true) : clsS w = 70 := by
  have h := (pTk_70 w).1.mp h
  obtain ⟨b1, b2, b3, b4, b5, b6, b7⟩ := sl_b w
  have c1 := sl07 w
  have c2 := sl106 w
  have c3 := sl124 w
  have e0_2 : pSl 0 2 w = 2 := by omega
  have e12_1 : pSl 12 1 w = 0 := by omega
  have e13_3 : pSl 13 3 w = 4 := by omega
  have n0 : ¬ pSl 7 5 w = 0 := by simp only [h, not_false_eq_true, and_self]
  have n1 : ¬ pSl 2 5 w = 0 := by simp only [h, not_false_eq_true, and_self]
  simp [clsS, e0_2, e12_1, e13_3, n0, n1]
theorem clsS_71 (w : Int) (h0 : 0 ≤ w) (h1 : w < 65536) (h : pTk 71 w = true) : clsS w = 71 := by
  have h := (pTk_71 w).1.mp h
  rw [sl016 h0 h1] at h
  subst h
  decide
theorem clsS_72 (w : Int) (h0 : 0 ≤ w) (h1 : w < 65536) (h : pTk 72 w = true) : clsS w = 72 := by
  have h := (pTk_72 w).1.mp h
  obtain ⟨b1, b2, b3, b4, b5, b6, b7⟩ := sl_b w
  have c1 := sl07 w
  have c2 := sl106 w
  have c3 := sl124 w
  have e0_2 : pSl 0 2 w = 2 := by omega
  have e2_5 : pSl 2 5 w = 0 := by omega
  have e12_1 : pSl 12 1 w = 1 := by omega
  have e13_3 : pSl 13 3 w = 4 := by omega
  have n0 : ¬ pSl 7 5 w = 0 := by simp only [h, not_false_eq_true, and_self]
  simp [clsS, e0_2, e2_5, e12_1, e13_3, n0]
theorem clsS_73 (w : Int) (h0 : 0 ≤ w) (h1 : w < 65536) (h : pTk 73 w = true) : clsS w = 73 := by
  have h := (pTk_73 w).1.mp h
  obtain ⟨b1, b2, b3, b4, b5, b6, b7⟩ := sl_b w
  have c1 := sl07 w
  have c2 := sl106 w
  have c3 := sl124 w
  have e0_2 : pSl 0 2 w = 2 := by omega
  have e12_1 : pSl 12 1 w = 1 := by omega
  have e13_3 : pSl 13 3 w = 4 := by omega
  have n0 : ¬ pSl 7 5 w = 0 := by simp only [h, not_false_eq_true, and_self]
  have n1 : ¬ pSl 2 5 w = 0 := by simp only [h, not_false_eq_true, and_self]
  simp [clsS, e0_2, e12_1, e13_3, n0, n1]
theorem clsS_74 (w : Int) (h0 : 0 ≤ w) (h1 : w < 65536) (h : pTk 74 w = true) : clsS w = 74 := by
  have h := (pTk_74 w).1.mp h
  obtain ⟨b1, b2, b3, b4, b5, b6, b7⟩ := sl_b w
  have c1 := sl07 w
  have c2 := sl106 w
  have c3 := sl124 w
  have e0_2 : pSl 0 2 w = 2 := by omega
  have e13_3 : pSl 13 3 w = 6 := by omega
  simp [clsS, e0_2, e13_3]
theorem clsS_k (w : Int) (h0 : 0 ≤ w) (h1 : w < 65536) : ∀ k : Nat, k < 75 → 48 ≤ k → pTk k w = true → clsS w = (k : Int)
  | 48, _, _, h => clsS_48 w h0 h1 h
  | 49, _, _, h => clsS_49 w h0 h1 h
  | 50, _, _, h => clsS_50 w h0 h1 h
  | 51, _, _, h => clsS_51 w h0 h1 h
  | 52, _, _, h => clsS_52 w h0 h1 h
  | 53, _, _, h => clsS_53 w h0 h1 h
  | 54, _, _, h => clsS_54 w h0 h1 h
  | 55, _, _, h => clsS_55 w h0 h1 h
  | 56, _, _, h => clsS_56 w h0 h1 h
  | 57, _, _, h => clsS_57 w h0 h1 h
  | 58, _, _, h => clsS_58 w h0 h1 h
  | 59, _, _, h => clsS_59 w h0 h1 h
  | 60, _, _, h => clsS_60 w h0 h1 h
  | 61, _, _, h => clsS_61 w h0 h1 h
  | 62, _, _, h => clsS_62 w h0 h1 h
  | 63, _, _, h => clsS_63 w h0 h1 h
  | 64, _, _, h => clsS_64 w h0 h1 h
  | 65, _, _, h => clsS_65 w h0 h1 h
  | 66, _, _, h => clsS_66 w h0 h1 h
  | 67, _, _, h => clsS_67 w h0 h1 h
  | 68, _, _, h => clsS_68 w h0 h1 h
  | 69, _, _, h => clsS_69 w h0 h1 h
  | 70, _, _, h => clsS_70 w h0 h1 h
  | 71, _, _, h => clsS_71 w h0 h1 h
  | 72, _, _, h => clsS_72 w h0 h1 h
  | 73, _, _, h => clsS_73 w h0 h1 h
  | 74, _, _, h => clsS_74 w h0 h1 h
  | n + 75, h, _, _ => absurd h (by omega)
  | 0, _, h, _ => absurd h (by omega)
  | 1, _, h, _ => absurd h (by omega)
  | 2, _, h, _ => absurd h (by omega)
  | 3, _, h, _ => absurd h (by omega)
  | 4, _, h, _ => absurd h (by omega)
  | 5, _, h, _ => absurd h (by omega)
  | 6, _, h, _ => absurd h (by omega)
  | 7, _, h, _ => absurd h (by omega)
  | 8, _, h, _ => absurd h (by omega)
  | 9, _, h, _ => absurd h (by omega)
  | 10, _, h, _ => absurd h (by omega)
  | 11, _, h, _ => absurd h (by omega)
  | 12, _, h, _ => absurd h (by omega)
  | 13, _, h, _ => absurd h (by omega)
  | 14, _, h, _ => absurd h (by omega)
  | 15, _, h, _ => absurd h (by omega)
  | 16, _, h, _ => absurd h (by omega)
  | 17, _, h, _ => absurd h (by omega)
  | 18, _, h, _ => absurd h (by omega)
  | 19, _, h, _ => absurd h (by omega)
  | 20, _, h, _ => absurd h (by omega)
  | 21, _, h, _ => absurd h (by omega)
  | 22, _, h, _ => absurd h (by omega)
  | 23, _, h, _ => absurd h (by omega)
  | 24, _, h, _ => absurd h (by omega)
  | 25, _, h, _ => absurd h (by omega)
  | 26, _, h, _ => absurd h (by omega)
  | 27, _, h, _ => absurd h (by omega)
  | 28, _, h, _ => absurd h (by omega)
  | 29, _, h, _ => absurd h (by omega)
  | 30, _, h, _ => absurd h (by omega)
  | 31, _, h, _ => absurd h (by omega)
  | 32, _, h, _ => absurd h (by omega)
  | 33, _, h, _ => absurd h (by omega)
  | 34, _, h, _ => absurd h (by omega)
  | 35, _, h, _ => absurd h (by omega)
  | 36, _, h, _ => absurd h (by omega)
  | 37, _, h, _ => absurd h (by omega)
  | 38, _, h, _ => absurd h (by omega)
  | 39, _, h, _ => absurd h (by omega)
  | 40, _, h, _ => absurd h (by omega)
  | 41, _, h, _ => absurd h (by omega)
  | 42, _, h, _ => absurd h (by omega)
  | 43, _, h, _ => absurd h (by omega)
  | 44, _, h, _ => absurd h (by omega)
  | 45, _, h, _ => absurd h (by omega)
  | 46, _, h, _ => absurd h (by omega)
  | 47, _, h, _ => absurd h (by omega)
/-- parts that a kind has not are 0 -/
def nrm (k : Nat) (p : jP4) : jP4 := (if pHas k 0 = true then p.1 else 0, if pHas k 1 = true then p.2.1 else 0, if pHas k 2 = true then p.2.2.1 else 0, if pHas k 3 = true then p.2.2.2 else 0)
theorem rt_0 (d a b i : Int) (g : pGood 0 (d, a, b, i) = true) : pTk 0 (pPut 0 (d, a, b, i)) = true ∧ pPt 0 (pPut 0 (d, a, b, i)) = nrm 0 (d, a, b, i) := by
  have q0 : pHas 0 0 = true := by decide +kernel
  have q1 : pHas 0 1 = false := by decide +kernel
  have q2 : pHas 0 2 = false := by decide +kernel
  have q3 : pHas 0 3 = true := by decide +kernel
  unfold pGood at g
  simp only [q0, q1, q2, q3, Bool.not_true, Bool.not_false, Bool.false_or, Bool.true_or, Bool.and_true, Bool.true_and, Bool.and_eq_true] at g
  obtain ⟨g0, g3⟩ := g
  have s0 : pSho 0 0 = false := by decide +kernel
  have g0 : 0 ≤ d ∧ d ≤ 31 ∧ (0 < 48 ∨ 0 = 74 ∨ ¬ d = 0 ∧ ¬ (0 = 56 ∧ d = 2)) := by unfold pReg at g0; rw [if_neg (by rw [s0]; decide)] at g0; exact of_decide_eq_true g0
  have g3 := (pImm_0 i).mp g3
  have r := pPut_0 d a b i (by omega) (by omega)
  refine ⟨r.1, r.2.trans ?_⟩
  unfold nrm
  rw [q0, q1, q2, q3]
  rfl
theorem rt_1 (d a b i : Int) (g : pGood 1 (d, a, b, i) = true) : pTk 1 (pPut 1 (d, a, b, i)) = true ∧ pPt 1 (pPut 1 (d, a, b, i)) = nrm 1 (d, a, b, i) := by
  have q0 : pHas 1 0 = true := by decide +kernel
  have q1 : pHas 1 1 = false := by decide +kernel
  have q2 : pHas 1 2 = false := by decide +kernel
  have q3 : pHas 1 3 = true := by decide +kernel
  unfold pGood at g
  simp only [q0, q1, q2, q3, Bool.not_true, Bool.not_false, Bool.false_or, Bool.true_or, Bool.and_true, Bool.true_and, Bool.and_eq_true] at g
  obtain ⟨g0, g3⟩ := g
  have s0 : pSho 1 0 = false := by decide +kernel
  have g0 : 0 ≤ d ∧ d ≤ 31 ∧ (1 < 48 ∨ 1 = 74 ∨ ¬ d = 0 ∧ ¬ (1 = 56 ∧ d = 2)) := by unfold pReg at g0; rw [if_neg (by rw [s0]; decide)] at g0; exact of_decide_eq_true g0
  have g3 := (pImm_1 i).mp g3
  have r := pPut_1 d a b i (by omega) (by omega)
  refine ⟨r.1, r.2.trans ?_⟩
  unfold nrm
  rw [q0, q1, q2, q3]
  rfl
theorem rt_2 (d a b i : Int) (g : pGood 2 (d, a, b, i) = true) : pTk 2 (pPut 2 (d, a, b, i)) = true ∧ pPt 2 (pPut 2 (d, a, b, i)) = nrm 2 (d, a, b, i) := by
  have q0 : pHas 2 0 = true := by decide +kernel
  have q1 : pHas 2 1 = false := by decide +kernel
  have q2 : pHas 2 2 = false := by decide +kernel
  have q3 : pHas 2 3 = true := by decide +kernel
  unfold pGood at g
  simp only [q0, q1, q2, q3, Bool.not_true, Bool.not_false, Bool.false_or, Bool.true_or, Bool.and_true, Bool.true_and, Bool.and_eq_true] at g
  obtain ⟨g0, g3⟩ := g
  have s0 : pSho 2 0 = false := by decide +kernel
  have g0 : 0 ≤ d ∧ d ≤ 31 ∧ (2 < 48 ∨ 2 = 74 ∨ ¬ d = 0 ∧ ¬ (2 = 56 ∧ d = 2)) := by unfold pReg at g0; rw [if_neg (by rw [s0]; decide)] at g0; exact of_decide_eq_true g0
  have g3 := (pImm_2 i).mp g3
  have r := pPut_2 d a b i (by omega) (by omega)
  refine ⟨r.1, r.2.trans ?_⟩
  unfold nrm
  rw [q0, q1, q2, q3]
  rfl
theorem rt_3 (d a b i : Int) (g : pGood 3 (d, a, b, i) = true) : pTk 3 (pPut 3 (d, a, b, i)) = true ∧ pPt 3 (pPut 3 (d, a, b, i)) = nrm 3 (d, a, b, i) := by
  have q0 : pHas 3 0 = true := by decide +kernel
  have q1 : pHas 3 1 = true := by decide +kernel
  have q2 : pHas 3 2 = false := by decide +kernel
  have q3 : pHas 3 3 = true := by decide +kernel
  unfold pGood at g
  simp only [q0, q1, q2, q3, Bool.not_true, Bool.not_false, Bool.false_or, Bool.true_or, Bool.and_true, Bool.true_and, Bool.and_eq_true] at g
  obtain ⟨⟨g0, g1⟩, g3⟩ := g
  have s0 : pSho 3 0 = false := by decide +kernel
  have g0 : 0 ≤ d ∧ d ≤ 31 ∧ (3 < 48 ∨ 3 = 74 ∨ ¬ d = 0 ∧ ¬ (3 = 56 ∧ d = 2)) := by unfold pReg at g0; rw [if_neg (by rw [s0]; decide)] at g0; exact of_decide_eq_true g0
  have s1 : pSho 3 1 = false := by decide +kernel
  have g1 : 0 ≤ a ∧ a ≤ 31 ∧ (3 < 48 ∨ 3 = 74 ∨ ¬ a = 0 ∧ ¬ (3 = 56 ∧ a = 2)) := by unfold pReg at g1; rw [if_neg (by rw [s1]; decide)] at g1; exact of_decide_eq_true g1
  have g3 := (pImm_3 i).mp g3
  have r := pPut_3 d a b i (by omega) (by omega) (by omega)
  refine ⟨r.1, r.2.trans ?_⟩
  unfold nrm
  rw [q0, q1, q2, q3]
  rfl
theorem rt_4 (d a b i : Int) (g : pGood 4 (d, a, b, i) = true) : pTk 4 (pPut 4 (d, a, b, i)) = true ∧ pPt 4 (pPut 4 (d, a, b, i)) = nrm 4 (d, a, b, i) := by
  have q0 : pHas 4 0 = false := by decide +kernel
  have q1 : pHas 4 1 = true := by decide +kernel
  have q2 : pHas 4 2 = true := by decide +kernel
  have q3 : pHas 4 3 = true := by decide +kernel
  unfold pGood at g
  simp only [q0, q1, q2, q3, Bool.not_true, Bool.not_false, Bool.false_or, Bool.true_or, Bool.and_true, Bool.true_and, Bool.and_eq_true] at g
  obtain ⟨⟨g1, g2⟩, g3⟩ := g
  have s1 : pSho 4 1 = false := by decide +kernel
  have g1 : 0 ≤ a ∧ a ≤ 31 ∧ (4 < 48 ∨ 4 = 74 ∨ ¬ a = 0 ∧ ¬ (4 = 56 ∧ a = 2)) := by unfold pReg at g1; rw [if_neg (by rw [s1]; decide)] at g1; exact of_decide_eq_true g1
  have s2 : pSho 4 2 = false := by decide +kernel
  have g2 : 0 ≤ b ∧ b ≤ 31 ∧ (4 < 48 ∨ 4 = 74 ∨ ¬ b = 0 ∧ ¬ (4 = 56 ∧ b = 2)) := by unfold pReg at g2; rw [if_neg (by rw [s2]; decide)] at g2; exact of_decide_eq_true g2
  have g3 := (pImm_4 i).mp g3
  have r := pPut_4 d a b i (by omega) (by omega) (by omega)
  refine ⟨r.1, r.2.trans ?_⟩
  unfold nrm
  rw [q0, q1, q2, q3]
  rfl
theorem rt_5 (d a b i : Int) (g : pGood 5 (d, a, b, i) = true) : pTk 5 (pPut 5 (d, a, b, i)) = true ∧ pPt 5 (pPut 5 (d, a, b, i)) = nrm 5 (d, a, b, i) := by
  have q0 : pHas 5 0 = false := by decide +kernel
  have q1 : pHas 5 1 = true := by decide +kernel
  have q2 : pHas 5 2 = true := by decide +kernel
  have q3 : pHas 5 3 = true := by decide +kernel
  unfold pGood at g
  simp only [q0, q1, q2, q3, Bool.not_true, Bool.not_false, Bool.false_or, Bool.true_or, Bool.and_true, Bool.true_and, Bool.and_eq_true] at g
  obtain ⟨⟨g1, g2⟩, g3⟩ := g
  have s1 : pSho 5 1 = false := by decide +kernel
  have g1 : 0 ≤ a ∧ a ≤ 31 ∧ (5 < 48 ∨ 5 = 74 ∨ ¬ a = 0 ∧ ¬ (5 = 56 ∧ a = 2)) := by unfold pReg at g1; rw [if_neg (by rw [s1]; decide)] at g1; exact of_decide_eq_true g1
  have s2 : pSho 5 2 = false := by decide +kernel
  have g2 : 0 ≤ b ∧ b ≤ 31 ∧ (5 < 48 ∨ 5 = 74 ∨ ¬ b = 0 ∧ ¬ (5 = 56 ∧ b = 2)) := by unfold pReg at g2; rw [if_neg (by rw [s2]; decide)] at g2; exact of_decide_eq_true g2
  have g3 := (pImm_5 i).mp g3
  have r := pPut_5 d a b i (by omega) (by omega) (by omega)
  refine ⟨r.1, r.2.trans ?_⟩
  unfold nrm
  rw [q0, q1, q2, q3]
  rfl
theorem rt_6 (d a b i : Int) (g : pGood 6 (d, a, b, i) = true) : pTk 6 (pPut 6 (d, a, b, i)) = true ∧ pPt 6 (pPut 6 (d, a, b, i)) = nrm 6 (d, a, b, i) := by
  have q0 : pHas 6 0 = false := by decide +kernel
  have q1 : pHas 6 1 = true := by decide +kernel
  have q2 : pHas 6 2 = true := by decide +kernel
  have q3 : pHas 6 3 = true := by decide +kernel
  unfold pGood at g
  simp only [q0, q1, q2, q3, Bool.not_true, Bool.not_false, Bool.false_or, Bool.true_or, Bool.and_true, Bool.true_and, Bool.and_eq_true] at g
  obtain ⟨⟨g1, g2⟩, g3⟩ := g
  have s1 : pSho 6 1 = false := by decide +kernel
  have g1 : 0 ≤ a ∧ a ≤ 31 ∧ (6 < 48 ∨ 6 = 74 ∨ ¬ a = 0 ∧ ¬ (6 = 56 ∧ a = 2)) := by unfold pReg at g1; rw [if_neg (by rw [s1]; decide)] at g1; exact of_decide_eq_true g1
  have s2 : pSho 6 2 = false := by decide +kernel
  have g2 : 0 ≤ b ∧ b ≤ 31 ∧ (6 < 48 ∨ 6 = 74 ∨ ¬ b = 0 ∧ ¬ (6 = 56 ∧ b = 2)) := by unfold pReg at g2; rw [if_neg (by rw [s2]; decide)] at g2; exact of_decide_eq_true g2
  have g3 := (pImm_6 i).mp g3
  have r := pPut_6 d a b i (by omega) (by omega) (by omega)
  refine ⟨r.1, r.2.trans ?_⟩
  unfold nrm
  rw [q0, q1, q2, q3]
  rfl
theorem rt_7 (d a b i : Int) (g : pGood 7 (d, a, b, i) = true) : pTk 7 (pPut 7 (d, a, b, i)) = true ∧ pPt 7 (pPut 7 (d, a, b, i)) = nrm 7 (d, a, b, i) := by
  have q0 : pHas 7 0 = false := by decide +kernel
  have q1 : pHas 7 1 = true := by decide +kernel
  have q2 : pHas 7 2 = true := by decide +kernel
  have q3 : pHas 7 3 = true := by decide +kernel
  unfold pGood at g
  simp only [q0, q1, q2, q3, Bool.not_true, Bool.not_false, Bool.false_or, Bool.true_or, Bool.and_true, Bool.true_and, Bool.and_eq_true] at g
  obtain ⟨⟨g1, g2⟩, g3⟩ := g
  have s1 : pSho 7 1 = false := by decide +kernel
  have g1 : 0 ≤ a ∧ a ≤ 31 ∧ (7 < 48 ∨ 7 = 74 ∨ ¬ a = 0 ∧ ¬ (7 = 56 ∧ a = 2)) := by unfold pReg at g1; rw [if_neg (by rw [s1]; decide)] at g1; exact of_decide_eq_true g1
  have s2 : pSho 7 2 = false := by decide +kernel
  have g2 : 0 ≤ b ∧ b ≤ 31 ∧ (7 < 48 ∨ 7 = 74 ∨ ¬ b = 0 ∧ ¬ (7 = 56 ∧ b = 2)) := by unfold pReg at g2; rw [if_neg (by rw [s2]; decide)] at g2; exact of_decide_eq_true g2
  have g3 := (pImm_7 i).mp g3
  have r := pPut_7 d a b i (by omega) (by omega) (by omega)
  refine ⟨r.1, r.2.trans ?_⟩
  unfold nrm
  rw [q0, q1, q2, q3]
  rfl
theorem rt_8 (d a b i : Int) (g : pGood 8 (d, a, b, i) = true) : pTk 8 (pPut 8 (d, a, b, i)) = true ∧ pPt 8 (pPut 8 (d, a, b, i)) = nrm 8 (d, a, b, i) := by
  have q0 : pHas 8 0 = false := by decide +kernel
  have q1 : pHas 8 1 = true := by decide +kernel
  have q2 : pHas 8 2 = true := by decide +kernel
  have q3 : pHas 8 3 = true := by decide +kernel
  unfold pGood at g
  simp only [q0, q1, q2, q3, Bool.not_true, Bool.not_false, Bool.false_or, Bool.true_or, Bool.and_true, Bool.true_and, Bool.and_eq_true] at g
  obtain ⟨⟨g1, g2⟩, g3⟩ := g
  have s1 : pSho 8 1 = false := by decide +kernel
  have g1 : 0 ≤ a ∧ a ≤ 31 ∧ (8 < 48 ∨ 8 = 74 ∨ ¬ a = 0 ∧ ¬ (8 = 56 ∧ a = 2)) := by unfold pReg at g1; rw [if_neg (by rw [s1]; decide)] at g1; exact of_decide_eq_true g1
  have s2 : pSho 8 2 = false := by decide +kernel
  have g2 : 0 ≤ b ∧ b ≤ 31 ∧ (8 < 48 ∨ 8 = 74 ∨ ¬ b = 0 ∧ ¬ (8 = 56 ∧ b = 2)) := by unfold pReg at g2; rw [if_neg (by rw [s2]; decide)] at g2; exact of_decide_eq_true g2
  have g3 := (pImm_8 i).mp g3
  have r := pPut_8 d a b i (by omega) (by omega) (by omega)
  refine ⟨r.1, r.2.trans ?_⟩
  unfold nrm
  rw [q0, q1, q2, q3]
  rfl
theorem rt_9 (d a b i : Int) (g : pGood 9 (d, a, b, i) = true) : pTk 9 (pPut 9 (d, a, b, i)) = true ∧ pPt 9 (pPut 9 (d, a, b, i)) = nrm 9 (d, a, b, i) := by
  have q0 : pHas 9 0 = false := by decide +kernel
  have q1 : pHas 9 1 = true := by decide +kernel
  have q2 : pHas 9 2 = true := by decide +kernel
  have q3 : pHas 9 3 = true := by decide +kernel
  unfold pGood at g
  simp only [q0, q1, q2, q3, Bool.not_true, Bool.not_false, Bool.false_or, Bool.true_or, Bool.and_true, Bool.true_and, Bool.and_eq_true] at g
  obtain ⟨⟨g1, g2⟩, g3⟩ := g
  have s1 : pSho 9 1 = false := by decide +kernel
  have g1 : 0 ≤ a ∧ a ≤ 31 ∧ (9 < 48 ∨ 9 = 74 ∨ ¬ a = 0 ∧ ¬ (9 = 56 ∧ a = 2)) := by unfold pReg at g1; rw [if_neg (by rw [s1]; decide)] at g1; exact of_decide_eq_true g1
  have s2 : pSho 9 2 = false := by decide +kernel
  have g2 : 0 ≤ b ∧ b ≤ 31 ∧ (9 < 48 ∨ 9 = 74 ∨ ¬ b = 0 ∧ ¬ (9 = 56 ∧ b = 2)) := by unfold pReg at g2; rw [if_neg (by rw [s2]; decide)] at g2; exact of_decide_eq_true g2
  have g3 := (pImm_9 i).mp g3
  have r := pPut_9 d a b i (by omega) (by omega) (by omega)
  refine ⟨r.1, r.2.trans ?_⟩
  unfold nrm
  rw [q0, q1, q2, q3]
  rfl
theorem rt_10 (d a b i : Int) (g : pGood 10 (d, a, b, i) = true) : pTk 10 (pPut 10 (d, a, b, i)) = true ∧ pPt 10 (pPut 10 (d, a, b, i)) = nrm 10 (d, a, b, i) := by
  have q0 : pHas 10 0 = true := by decide +kernel
  have q1 : pHas 10 1 = true := by decide +kernel
  have q2 : pHas 10 2 = false := by decide +kernel
  have q3 : pHas 10 3 = true := by decide +kernel
  unfold pGood at g
  simp only [q0, q1, q2, q3, Bool.not_true, Bool.not_false, Bool.false_or, Bool.true_or, Bool.and_true, Bool.true_and, Bool.and_eq_true] at g
  obtain ⟨⟨g0, g1⟩, g3⟩ := g
  have s0 : pSho 10 0 = false := by decide +kernel
  have g0 : 0 ≤ d ∧ d ≤ 31 ∧ (10 < 48 ∨ 10 = 74 ∨ ¬ d = 0 ∧ ¬ (10 = 56 ∧ d = 2)) := by unfold pReg at g0; rw [if_neg (by rw [s0]; decide)] at g0; exact of_decide_eq_true g0
  have s1 : pSho 10 1 = false := by decide +kernel
  have g1 : 0 ≤ a ∧ a ≤ 31 ∧ (10 < 48 ∨ 10 = 74 ∨ ¬ a = 0 ∧ ¬ (10 = 56 ∧ a = 2)) := by unfold pReg at g1; rw [if_neg (by rw [s1]; decide)] at g1; exact of_decide_eq_true g1
  have g3 := (pImm_10 i).mp g3
  have r := pPut_10 d a b i (by omega) (by omega) (by omega)
  refine ⟨r.1, r.2.trans ?_⟩
  unfold nrm
  rw [q0, q1, q2, q3]
  rfl
theorem rt_11 (d a b i : Int) (g : pGood 11 (d, a, b, i) = true) : pTk 11 (pPut 11 (d, a, b, i)) = true ∧ pPt 11 (pPut 11 (d, a, b, i)) = nrm 11 (d, a, b, i) := by
  have q0 : pHas 11 0 = true := by decide +kernel
  have q1 : pHas 11 1 = true := by decide +kernel
  have q2 : pHas 11 2 = false := by decide +kernel
  have q3 : pHas 11 3 = true := by decide +kernel
  unfold pGood at g
  simp only [q0, q1, q2, q3, Bool.not_true, Bool.not_false, Bool.false_or, Bool.true_or, Bool.and_true, Bool.true_and, Bool.and_eq_true] at g
  obtain ⟨⟨g0, g1⟩, g3⟩ := g
  have s0 : pSho 11 0 = false := by decide +kernel
  have g0 : 0 ≤ d ∧ d ≤ 31 ∧ (11 < 48 ∨ 11 = 74 ∨ ¬ d = 0 ∧ ¬ (11 = 56 ∧ d = 2)) := by unfold pReg at g0; rw [if_neg (by rw [s0]; decide)] at g0; exact of_decide_eq_true g0
  have s1 : pSho 11 1 = false := by decide +kernel
  have g1 : 0 ≤ a ∧ a ≤ 31 ∧ (11 < 48 ∨ 11 = 74 ∨ ¬ a = 0 ∧ ¬ (11 = 56 ∧ a = 2)) := by unfold pReg at g1; rw [if_neg (by rw [s1]; decide)] at g1; exact of_decide_eq_true g1
  have g3 := (pImm_11 i).mp g3
  have r := pPut_11 d a b i (by omega) (by omega) (by omega)
  refine ⟨r.1, r.2.trans ?_⟩
  unfold nrm
  rw [q0, q1, q2, q3]
  rfl
theorem rt_12 (d a b i : Int) (g : pGood 12 (d, a, b, i) = true) : pTk 12 (pPut 12 (d, a, b, i)) = true ∧ pPt 12 (pPut 12 (d, a, b, i)) = nrm 12 (d, a, b, i) := by
  have q0 : pHas 12 0 = true := by decide +kernel
  have q1 : pHas 12 1 = true := by decide +kernel
  have q2 : pHas 12 2 = false := by decide +kernel
  have q3 : pHas 12 3 = true := by decide +kernel
  unfold pGood at g
  simp only [q0, q1, q2, q3, Bool.not_true, Bool.not_false, Bool.false_or, Bool.true_or, Bool.and_true, Bool.true_and, Bool.and_eq_true] at g
  obtain ⟨⟨g0, g1⟩, g3⟩ := g
  have s0 : pSho 12 0 = false := by decide +kernel
  have g0 : 0 ≤ d ∧ d ≤ 31 ∧ (12 < 48 ∨ 12 = 74 ∨ ¬ d = 0 ∧ ¬ (12 = 56 ∧ d = 2)) := by unfold pReg at g0; rw [if_neg (by rw [s0]; decide)] at g0; exact of_decide_eq_true g0
  have s1 : pSho 12 1 = false := by decide +kernel
  have g1 : 0 ≤ a ∧ a ≤ 31 ∧ (12 < 48 ∨ 12 = 74 ∨ ¬ a = 0 ∧ ¬ (12 = 56 ∧ a = 2)) := by unfold pReg at g1; rw [if_neg (by rw [s1]; decide)] at g1; exact of_decide_eq_true g1
  have g3 := (pImm_12 i).mp g3
  have r := pPut_12 d a b i (by omega) (by omega) (by omega)
  refine ⟨r.1, r.2.trans ?_⟩
  unfold nrm
  rw [q0, q1, q2, q3]
  rfl
theorem rt_13 (d a b i : Int) (g : pGood 13 (d, a, b, i) = true) : pTk 13 (pPut 13 (d, a, b, i)) = true ∧ pPt 13 (pPut 13 (d, a, b, i)) = nrm 13 (d, a, b, i) := by
  have q0 : pHas 13 0 = true := by decide +kernel
  have q1 : pHas 13 1 = true := by decide +kernel
  have q2 : pHas 13 2 = false := by decide +kernel
  have q3 : pHas 13 3 = true := by decide +kernel
  unfold pGood at g
  simp only [q0, q1, q2, q3, Bool.not_true, Bool.not_false, Bool.false_or, Bool.true_or, Bool.and_true, Bool.true_and, Bool.and_eq_true] at g
  obtain ⟨⟨g0, g1⟩, g3⟩ := g
  have s0 : pSho 13 0 = false := by decide +kernel
  have g0 : 0 ≤ d ∧ d ≤ 31 ∧ (13 < 48 ∨ 13 = 74 ∨ ¬ d = 0 ∧ ¬ (13 = 56 ∧ d = 2)) := by unfold pReg at g0; rw [if_neg (by rw [s0]; decide)] at g0; exact of_decide_eq_true g0
  have s1 : pSho 13 1 = false := by decide +kernel
  have g1 : 0 ≤ a ∧ a ≤ 31 ∧ (13 < 48 ∨ 13 = 74 ∨ ¬ a = 0 ∧ ¬ (13 = 56 ∧ a = 2)) := by unfold pReg at g1; rw [if_neg (by rw [s1]; decide)] at g1; exact of_decide_eq_true g1
  have g3 := (pImm_13 i).mp g3
  have r := pPut_13 d a b i (by omega) (by omega) (by omega)
  refine ⟨r.1, r.2.trans ?_⟩
  unfold nrm
  rw [q0, q1, q2, q3]
  rfl
theorem rt_14 (d a b i : Int) (g : pGood 14 (d, a, b, i) = true) : pTk 14 (pPut 14 (d, a, b, i)) = true ∧ pPt 14 (pPut 14 (d, a, b, i)) = nrm 14 (d, a, b, i) := by
  have q0 : pHas 14 0 = true := by decide +kernel
  have q1 : pHas 14 1 = true := by decide +kernel
  have q2 : pHas 14 2 = false := by decide +kernel
  have q3 : pHas 14 3 = true := by decide +kernel
  unfold pGood at g
  simp only [q0, q1, q2, q3, Bool.not_true, Bool.not_false, Bool.false_or, Bool.true_or, Bool.and_true, Bool.true_and, Bool.and_eq_true] at g
  obtain ⟨⟨g0, g1⟩, g3⟩ := g
  have s0 : pSho 14 0 = false := by decide +kernel
  have g0 : 0 ≤ d ∧ d ≤ 31 ∧ (14 < 48 ∨ 14 = 74 ∨ ¬ d = 0 ∧ ¬ (14 = 56 ∧ d = 2)) := by unfold pReg at g0; rw [if_neg (by rw [s0]; decide)] at g0; exact of_decide_eq_true g0
  have s1 : pSho 14 1 = false := by decide +kernel
  have g1 : 0 ≤ a ∧ a ≤ 31 ∧ (14 < 48 ∨ 14 = 74 ∨ ¬ a = 0 ∧ ¬ (14 = 56 ∧ a = 2)) := by unfold pReg at g1; rw [if_neg (by rw [s1]; decide)] at g1; exact of_decide_eq_true g1
  have g3 := (pImm_14 i).mp g3
  have r := pPut_14 d a b i (by omega) (by omega) (by omega)
  refine ⟨r.1, r.2.trans ?_⟩
  unfold nrm
  rw [q0, q1, q2, q3]
  rfl
theorem rt_15 (d a b i : Int) (g : pGood 15 (d, a, b, i) = true) : pTk 15 (pPut 15 (d, a, b, i)) = true ∧ pPt 15 (pPut 15 (d, a, b, i)) = nrm 15 (d, a, b, i) := by
  have q0 : pHas 15 0 = false := by decide +kernel
  have q1 : pHas 15 1 = true := by decide +kernel
  have q2 : pHas 15 2 = true := by decide +kernel
  have q3 : pHas 15 3 = true := by decide +kernel
  unfold pGood at g
  simp only [q0, q1, q2, q3, Bool.not_true, Bool.not_false, Bool.false_or, Bool.true_or, Bool.and_true, Bool.true_and, Bool.and_eq_true] at g
  obtain ⟨⟨g1, g2⟩, g3⟩ := g
  have s1 : pSho 15 1 = false := by decide +kernel
  have g1 : 0 ≤ a ∧ a ≤ 31 ∧ (15 < 48 ∨ 15 = 74 ∨ ¬ a = 0 ∧ ¬ (15 = 56 ∧ a = 2)) := by unfold pReg at g1; rw [if_neg (by rw [s1]; decide)] at g1; exact of_decide_eq_true g1
  have s2 : pSho 15 2 = false := by decide +kernel
  have g2 : 0 ≤ b ∧ b ≤ 31 ∧ (15 < 48 ∨ 15 = 74 ∨ ¬ b = 0 ∧ ¬ (15 = 56 ∧ b = 2)) := by unfold pReg at g2; rw [if_neg (by rw [s2]; decide)] at g2; exact of_decide_eq_true g2
  have g3 := (pImm_15 i).mp g3
  have r := pPut_15 d a b i (by omega) (by omega) (by omega)
  refine ⟨r.1, r.2.trans ?_⟩
  unfold nrm
  rw [q0, q1, q2, q3]
  rfl
theorem rt_16 (d a b i : Int) (g : pGood 16 (d, a, b, i) = true) : pTk 16 (pPut 16 (d, a, b, i)) = true ∧ pPt 16 (pPut 16 (d, a, b, i)) = nrm 16 (d, a, b, i) := by
  have q0 : pHas 16 0 = false := by decide +kernel
  have q1 : pHas 16 1 = true := by decide +kernel
  have q2 : pHas 16 2 = true := by decide +kernel
  have q3 : pHas 16 3 = true := by decide +kernel
  unfold pGood at g
  simp only [q0, q1, q2, q3, Bool.not_true, Bool.not_false, Bool.false_or, Bool.true_or, Bool.and_true, Bool.true_and, Bool.and_eq_true] at g
  obtain ⟨⟨g1, g2⟩, g3⟩ := g
  have s1 : pSho 16 1 = false := by decide +kernel
  have g1 : 0 ≤ a ∧ a ≤ 31 ∧ (16 < 48 ∨ 16 = 74 ∨ ¬ a = 0 ∧ ¬ (16 = 56 ∧ a = 2)) := by unfold pReg at g1; rw [if_neg (by rw [s1]; decide)] at g1; exact of_decide_eq_true g1
  have s2 : pSho 16 2 = false := by decide +kernel
  have g2 : 0 ≤ b ∧ b ≤ 31 ∧ (16 < 48 ∨ 16 = 74 ∨ ¬ b = 0 ∧ ¬ (16 = 56 ∧ b = 2)) := by unfold pReg at g2; rw [if_neg (by rw [s2]; decide)] at g2; exact of_decide_eq_true g2
  have g3 := (pImm_16 i).mp g3
  have r := pPut_16 d a b i (by omega) (by omega) (by omega)
  refine ⟨r.1, r.2.trans ?_⟩
  unfold nrm
  rw [q0, q1, q2, q3]
  rfl
theorem rt_17 (d a b i : Int) (g : pGood 17 (d, a, b, i) = true) : pTk 17 (pPut 17 (d, a, b, i)) = true ∧ pPt 17 (pPut 17 (d, a, b, i)) = nrm 17 (d, a, b, i) := by
  have q0 : pHas 17 0 = false := by decide +kernel
  have q1 : pHas 17 1 = true := by decide +kernel
  have q2 : pHas 17 2 = true := by decide +kernel
  have q3 : pHas 17 3 = true := by decide +kernel
  unfold pGood at g
  simp only [q0, q1, q2, q3, Bool.not_true, Bool.not_false, Bool.false_or, Bool.true_or, Bool.and_true, Bool.true_and, Bool.and_eq_true] at g
  obtain ⟨⟨g1, g2⟩, g3⟩ := g
  have s1 : pSho 17 1 = false := by decide +kernel
  have g1 : 0 ≤ a ∧ a ≤ 31 ∧ (17 < 48 ∨ 17 = 74 ∨ ¬ a = 0 ∧ ¬ (17 = 56 ∧ a = 2)) := by unfold pReg at g1; rw [if_neg (by rw [s1]; decide)] at g1; exact of_decide_eq_true g1
  have s2 : pSho 17 2 = false := by decide +kernel
  have g2 : 0 ≤ b ∧ b ≤ 31 ∧ (17 < 48 ∨ 17 = 74 ∨ ¬ b = 0 ∧ ¬ (17 = 56 ∧ b = 2)) := by unfold pReg at g2; rw [if_neg (by rw [s2]; decide)] at g2; exact of_decide_eq_true g2
  have g3 := (pImm_17 i).mp g3
  have r := pPut_17 d a b i (by omega) (by omega) (by omega)
  refine ⟨r.1, r.2.trans ?_⟩
  unfold nrm
  rw [q0, q1, q2, q3]
  rfl
theorem rt_18 (d a b i : Int) (g : pGood 18 (d, a, b, i) = true) : pTk 18 (pPut 18 (d, a, b, i)) = true ∧ pPt 18 (pPut 18 (d, a, b, i)) = nrm 18 (d, a, b, i) := by
  have q0 : pHas 18 0 = true := by decide +kernel
  have q1 : pHas 18 1 = true := by decide +kernel
  have q2 : pHas 18 2 = false := by decide +kernel
  have q3 : pHas 18 3 = true := by decide +kernel
  unfold pGood at g
  simp only [q0, q1, q2, q3, Bool.not_true, Bool.not_false, Bool.false_or, Bool.true_or, Bool.and_true, Bool.true_and, Bool.and_eq_true] at g
  obtain ⟨⟨g0, g1⟩, g3⟩ := g
  have s0 : pSho 18 0 = false := by decide +kernel
  have g0 : 0 ≤ d ∧ d ≤ 31 ∧ (18 < 48 ∨ 18 = 74 ∨ ¬ d = 0 ∧ ¬ (18 = 56 ∧ d = 2)) := by unfold pReg at g0; rw [if_neg (by rw [s0]; decide)] at g0; exact of_decide_eq_true g0
  have s1 : pSho 18 1 = false := by decide +kernel
  have g1 : 0 ≤ a ∧ a ≤ 31 ∧ (18 < 48 ∨ 18 = 74 ∨ ¬ a = 0 ∧ ¬ (18 = 56 ∧ a = 2)) := by unfold pReg at g1; rw [if_neg (by rw [s1]; decide)] at g1; exact of_decide_eq_true g1
  have g3 := (pImm_18 i).mp g3
  have r := pPut_18 d a b i (by omega) (by omega) (by omega)
  refine ⟨r.1, r.2.trans ?_⟩
  unfold nrm
  rw [q0, q1, q2, q3]
  rfl
theorem rt_19 (d a b i : Int) (g : pGood 19 (d, a, b, i) = true) : pTk 19 (pPut 19 (d, a, b, i)) = true ∧ pPt 19 (pPut 19 (d, a, b, i)) = nrm 19 (d, a, b, i) := by
  have q0 : pHas 19 0 = true := by decide +kernel
  have q1 : pHas 19 1 = true := by decide +kernel
  have q2 : pHas 19 2 = false := by decide +kernel
  have q3 : pHas 19 3 = true := by decide +kernel
  unfold pGood at g
  simp only [q0, q1, q2, q3, Bool.not_true, Bool.not_false, Bool.false_or, Bool.true_or, Bool.and_true, Bool.true_and, Bool.and_eq_true] at g
  obtain ⟨⟨g0, g1⟩, g3⟩ := g
  have s0 : pSho 19 0 = false := by decide +kernel
  have g0 : 0 ≤ d ∧ d ≤ 31 ∧ (19 < 48 ∨ 19 = 74 ∨ ¬ d = 0 ∧ ¬ (19 = 56 ∧ d = 2)) := by unfold pReg at g0; rw [if_neg (by rw [s0]; decide)] at g0; exact of_decide_eq_true g0
  have s1 : pSho 19 1 = false := by decide +kernel
  have g1 : 0 ≤ a ∧ a ≤ 31 ∧ (19 < 48 ∨ 19 = 74 ∨ ¬ a = 0 ∧ ¬ (19 = 56 ∧ a = 2)) := by unfold pReg at g1; rw [if_neg (by rw [s1]; decide)] at g1; exact of_decide_eq_true g1
  have g3 := (pImm_19 i).mp g3
  have r := pPut_19 d a b i (by omega) (by omega) (by omega)
  refine ⟨r.1, r.2.trans ?_⟩
  unfold nrm
  rw [q0, q1, q2, q3]
  rfl
theorem rt_20 (d a b i : Int) (g : pGood 20 (d, a, b, i) = true) : pTk 20 (pPut 20 (d, a, b, i)) = true ∧ pPt 20 (pPut 20 (d, a, b, i)) = nrm 20 (d, a, b, i) := by
  have q0 : pHas 20 0 = true := by decide +kernel
  have q1 : pHas 20 1 = true := by decide +kernel
  have q2 : pHas 20 2 = false := by decide +kernel
  have q3 : pHas 20 3 = true := by decide +kernel
  unfold pGood at g
  simp only [q0, q1, q2, q3, Bool.not_true, Bool.not_false, Bool.false_or, Bool.true_or, Bool.and_true, Bool.true_and, Bool.and_eq_true] at g
  obtain ⟨⟨g0, g1⟩, g3⟩ := g
  have s0 : pSho 20 0 = false := by decide +kernel
  have g0 : 0 ≤ d ∧ d ≤ 31 ∧ (20 < 48 ∨ 20 = 74 ∨ ¬ d = 0 ∧ ¬ (20 = 56 ∧ d = 2)) := by unfold pReg at g0; rw [if_neg (by rw [s0]; decide)] at g0; exact of_decide_eq_true g0
  have s1 : pSho 20 1 = false := by decide +kernel
  have g1 : 0 ≤ a ∧ a ≤ 31 ∧ (20 < 48 ∨ 20 = 74 ∨ ¬ a = 0 ∧ ¬ (20 = 56 ∧ a = 2)) := by unfold pReg at g1; rw [if_neg (by rw [s1]; decide)] at g1; exact of_decide_eq_true g1
  have g3 := (pImm_20 i).mp g3
  have r := pPut_20 d a b i (by omega) (by omega) (by omega)
  refine ⟨r.1, r.2.trans ?_⟩
  unfold nrm
  rw [q0, q1, q2, q3]
  rfl
theorem rt_21 (d a b i : Int) (g : pGood 21 (d, a, b, i) = true) : pTk 21 (pPut 21 (d, a, b, i)) = true ∧ pPt 21 (pPut 21 (d, a, b, i)) = nrm 21 (d, a, b, i) := by
  have q0 : pHas 21 0 = true := by decide +kernel
  have q1 : pHas 21 1 = true := by decide +kernel
  have q2 : pHas 21 2 = false := by decide +kernel
  have q3 : pHas 21 3 = true := by decide +kernel
  unfold pGood at g
  simp only [q0, q1, q2, q3, Bool.not_true, Bool.not_false, Bool.false_or, Bool.true_or, Bool.and_true, Bool.true_and, Bool.and_eq_true] at g
  obtain ⟨⟨g0, g1⟩, g3⟩ := g
  have s0 : pSho 21 0 = false := by decide +kernel
  have g0 : 0 ≤ d ∧ d ≤ 31 ∧ (21 < 48 ∨ 21 = 74 ∨ ¬ d = 0 ∧ ¬ (21 = 56 ∧ d = 2)) := by unfold pReg at g0; rw [if_neg (by rw [s0]; decide)] at g0; exact of_decide_eq_true g0
  have s1 : pSho 21 1 = false := by decide +kernel
  have g1 : 0 ≤ a ∧ a ≤ 31 ∧ (21 < 48 ∨ 21 = 74 ∨ ¬ a = 0 ∧ ¬ (21 = 56 ∧ a = 2)) := by unfold pReg at g1; rw [if_neg (by rw [s1]; decide)] at g1; exact of_decide_eq_true g1
  have g3 := (pImm_21 i).mp g3
  have r := pPut_21 d a b i (by omega) (by omega) (by omega)
  refine ⟨r.1, r.2.trans ?_⟩
  unfold nrm
  rw [q0, q1, q2, q3]
  rfl
theorem rt_22 (d a b i : Int) (g : pGood 22 (d, a, b, i) = true) : pTk 22 (pPut 22 (d, a, b, i)) = true ∧ pPt 22 (pPut 22 (d, a, b, i)) = nrm 22 (d, a, b, i) := by
  have q0 : pHas 22 0 = true := by decide +kernel
  have q1 : pHas 22 1 = true := by decide +kernel
  have q2 : pHas 22 2 = false := by decide +kernel
  have q3 : pHas 22 3 = true := by decide +kernel
  unfold pGood at g
  simp only [q0, q1, q2, q3, Bool.not_true, Bool.not_false, Bool.false_or, Bool.true_or, Bool.and_true, Bool.true_and, Bool.and_eq_true] at g
  obtain ⟨⟨g0, g1⟩, g3⟩ := g
  have s0 : pSho 22 0 = false := by decide +kernel
  have g0 : 0 ≤ d ∧ d ≤ 31 ∧ (22 < 48 ∨ 22 = 74 ∨ ¬ d = 0 ∧ ¬ (22 = 56 ∧ d = 2)) := by unfold pReg at g0; rw [if_neg (by rw [s0]; decide)] at g0; exact of_decide_eq_true g0
  have s1 : pSho 22 1 = false := by decide +kernel
  have g1 : 0 ≤ a ∧ a ≤ 31 ∧ (22 < 48 ∨ 22 = 74 ∨ ¬ a = 0 ∧ ¬ (22 = 56 ∧ a = 2)) := by unfold pReg at g1; rw [if_neg (by rw [s1]; decide)] at g1; exact of_decide_eq_true g1
  have g3 := (pImm_22 i).mp g3
  have r := pPut_22 d a b i (by omega) (by omega) (by omega)
  refine ⟨r.1, r.2.trans ?_⟩
  unfold nrm
  rw [q0, q1, q2, q3]
  rfl
theorem rt_23 (d a b i : Int) (g : pGood 23 (d, a, b, i) = true) : pTk 23 (pPut 23 (d, a, b, i)) = true ∧ pPt 23 (pPut 23 (d, a, b, i)) = nrm 23 (d, a, b, i) := by
  have q0 : pHas 23 0 = true := by decide +kernel
  have q1 : pHas 23 1 = true := by decide +kernel
  have q2 : pHas 23 2 = false := by decide +kernel
  have q3 : pHas 23 3 = true := by decide +kernel
  unfold pGood at g
  simp only [q0, q1, q2, q3, Bool.not_true, Bool.not_false, Bool.false_or, Bool.true_or, Bool.and_true, Bool.true_and, Bool.and_eq_true] at g
  obtain ⟨⟨g0, g1⟩, g3⟩ := g
  have s0 : pSho 23 0 = false := by decide +kernel
  have g0 : 0 ≤ d ∧ d ≤ 31 ∧ (23 < 48 ∨ 23 = 74 ∨ ¬ d = 0 ∧ ¬ (23 = 56 ∧ d = 2)) := by unfold pReg at g0; rw [if_neg (by rw [s0]; decide)] at g0; exact of_decide_eq_true g0
  have s1 : pSho 23 1 = false := by decide +kernel
  have g1 : 0 ≤ a ∧ a ≤ 31 ∧ (23 < 48 ∨ 23 = 74 ∨ ¬ a = 0 ∧ ¬ (23 = 56 ∧ a = 2)) := by unfold pReg at g1; rw [if_neg (by rw [s1]; decide)] at g1; exact of_decide_eq_true g1
  have g3 := (pImm_23 i).mp g3
  have r := pPut_23 d a b i (by omega) (by omega) (by omega)
  refine ⟨r.1, r.2.trans ?_⟩
  unfold nrm
  rw [q0, q1, q2, q3]
  rfl
theorem rt_24 (d a b i : Int) (g : pGood 24 (d, a, b, i) = true) : pTk 24 (pPut 24 (d, a, b, i)) = true ∧ pPt 24 (pPut 24 (d, a, b, i)) = nrm 24 (d, a, b, i) := by
  have q0 : pHas 24 0 = true := by decide +kernel
  have q1 : pHas 24 1 = true := by decide +kernel
  have q2 : pHas 24 2 = false := by decide +kernel
  have q3 : pHas 24 3 = true := by decide +kernel
  unfold pGood at g
  simp only [q0, q1, q2, q3, Bool.not_true, Bool.not_false, Bool.false_or, Bool.true_or, Bool.and_true, Bool.true_and, Bool.and_eq_true] at g
  obtain ⟨⟨g0, g1⟩, g3⟩ := g
  have s0 : pSho 24 0 = false := by decide +kernel
  have g0 : 0 ≤ d ∧ d ≤ 31 ∧ (24 < 48 ∨ 24 = 74 ∨ ¬ d = 0 ∧ ¬ (24 = 56 ∧ d = 2)) := by unfold pReg at g0; rw [if_neg (by rw [s0]; decide)] at g0; exact of_decide_eq_true g0
  have s1 : pSho 24 1 = false := by decide +kernel
  have g1 : 0 ≤ a ∧ a ≤ 31 ∧ (24 < 48 ∨ 24 = 74 ∨ ¬ a = 0 ∧ ¬ (24 = 56 ∧ a = 2)) := by unfold pReg at g1; rw [if_neg (by rw [s1]; decide)] at g1; exact of_decide_eq_true g1
  have g3 := (pImm_24 i).mp g3
  have r := pPut_24 d a b i (by omega) (by omega) (by omega)
  refine ⟨r.1, r.2.trans ?_⟩
  unfold nrm
  rw [q0, q1, q2, q3]
  rfl
theorem rt_25 (d a b i : Int) (g : pGood 25 (d, a, b, i) = true) : pTk 25 (pPut 25 (d, a, b, i)) = true ∧ pPt 25 (pPut 25 (d, a, b, i)) = nrm 25 (d, a, b, i) := by
  have q0 : pHas 25 0 = true := by decide +kernel
  have q1 : pHas 25 1 = true := by decide +kernel
  have q2 : pHas 25 2 = false := by decide +kernel
  have q3 : pHas 25 3 = true := by decide +kernel
  unfold pGood at g
  simp only [q0, q1, q2, q3, Bool.not_true, Bool.not_false, Bool.false_or, Bool.true_or, Bool.and_true, Bool.true_and, Bool.and_eq_true] at g
  obtain ⟨⟨g0, g1⟩, g3⟩ := g
  have s0 : pSho 25 0 = false := by decide +kernel
  have g0 : 0 ≤ d ∧ d ≤ 31 ∧ (25 < 48 ∨ 25 = 74 ∨ ¬ d = 0 ∧ ¬ (25 = 56 ∧ d = 2)) := by unfold pReg at g0; rw [if_neg (by rw [s0]; decide)] at g0; exact of_decide_eq_true g0
  have s1 : pSho 25 1 = false := by decide +kernel
  have g1 : 0 ≤ a ∧ a ≤ 31 ∧ (25 < 48 ∨ 25 = 74 ∨ ¬ a = 0 ∧ ¬ (25 = 56 ∧ a = 2)) := by unfold pReg at g1; rw [if_neg (by rw [s1]; decide)] at g1; exact of_decide_eq_true g1
  have g3 := (pImm_25 i).mp g3
  have r := pPut_25 d a b i (by omega) (by omega) (by omega)
  refine ⟨r.1, r.2.trans ?_⟩
  unfold nrm
  rw [q0, q1, q2, q3]
  rfl
theorem rt_26 (d a b i : Int) (g : pGood 26 (d, a, b, i) = true) : pTk 26 (pPut 26 (d, a, b, i)) = true ∧ pPt 26 (pPut 26 (d, a, b, i)) = nrm 26 (d, a, b, i) := by
  have q0 : pHas 26 0 = true := by decide +kernel
  have q1 : pHas 26 1 = true := by decide +kernel
  have q2 : pHas 26 2 = false := by decide +kernel
  have q3 : pHas 26 3 = true := by decide +kernel
  unfold pGood at g
  simp only [q0, q1, q2, q3, Bool.not_true, Bool.not_false, Bool.false_or, Bool.true_or, Bool.and_true, Bool.true_and, Bool.and_eq_true] at g
  obtain ⟨⟨g0, g1⟩, g3⟩ := g
  have s0 : pSho 26 0 = false := by decide +kernel
  have g0 : 0 ≤ d ∧ d ≤ 31 ∧ (26 < 48 ∨ 26 = 74 ∨ ¬ d = 0 ∧ ¬ (26 = 56 ∧ d = 2)) := by unfold pReg at g0; rw [if_neg (by rw [s0]; decide)] at g0; exact of_decide_eq_true g0
  have s1 : pSho 26 1 = false := by decide +kernel
  have g1 : 0 ≤ a ∧ a ≤ 31 ∧ (26 < 48 ∨ 26 = 74 ∨ ¬ a = 0 ∧ ¬ (26 = 56 ∧ a = 2)) := by unfold pReg at g1; rw [if_neg (by rw [s1]; decide)] at g1; exact of_decide_eq_true g1
  have g3 := (pImm_26 i).mp g3
  have r := pPut_26 d a b i (by omega) (by omega) (by omega)
  refine ⟨r.1, r.2.trans ?_⟩
  unfold nrm
  rw [q0, q1, q2, q3]
  rfl
theorem rt_27 (d a b i : Int) (g : pGood 27 (d, a, b, i) = true) : pTk 27 (pPut 27 (d, a, b, i)) = true ∧ pPt 27 (pPut 27 (d, a, b, i)) = nrm 27 (d, a, b, i) := by
  have q0 : pHas 27 0 = true := by decide +kernel
  have q1 : pHas 27 1 = true := by decide +kernel
  have q2 : pHas 27 2 = true := by decide +kernel
  have q3 : pHas 27 3 = false := by decide +kernel
  unfold pGood at g
  simp only [q0, q1, q2, q3, Bool.not_true, Bool.not_false, Bool.false_or, Bool.true_or, Bool.and_true, Bool.true_and, Bool.and_eq_true] at g
  obtain ⟨⟨g0, g1⟩, g2⟩ := g
  have s0 : pSho 27 0 = false := by decide +kernel
  have g0 : 0 ≤ d ∧ d ≤ 31 ∧ (27 < 48 ∨ 27 = 74 ∨ ¬ d = 0 ∧ ¬ (27 = 56 ∧ d = 2)) := by unfold pReg at g0; rw [if_neg (by rw [s0]; decide)] at g0; exact of_decide_eq_true g0
  have s1 : pSho 27 1 = false := by decide +kernel
  have g1 : 0 ≤ a ∧ a ≤ 31 ∧ (27 < 48 ∨ 27 = 74 ∨ ¬ a = 0 ∧ ¬ (27 = 56 ∧ a = 2)) := by unfold pReg at g1; rw [if_neg (by rw [s1]; decide)] at g1; exact of_decide_eq_true g1
  have s2 : pSho 27 2 = false := by decide +kernel
  have g2 : 0 ≤ b ∧ b ≤ 31 ∧ (27 < 48 ∨ 27 = 74 ∨ ¬ b = 0 ∧ ¬ (27 = 56 ∧ b = 2)) := by unfold pReg at g2; rw [if_neg (by rw [s2]; decide)] at g2; exact of_decide_eq_true g2
  have r := pPut_27 d a b i (by omega) (by omega) (by omega)
  refine ⟨r.1, r.2.trans ?_⟩
  unfold nrm
  rw [q0, q1, q2, q3]
  rfl
theorem rt_28 (d a b i : Int) (g : pGood 28 (d, a, b, i) = true) : pTk 28 (pPut 28 (d, a, b, i)) = true ∧ pPt 28 (pPut 28 (d, a, b, i)) = nrm 28 (d, a, b, i) := by
  have q0 : pHas 28 0 = true := by decide +kernel
  have q1 : pHas 28 1 = true := by decide +kernel
  have q2 : pHas 28 2 = true := by decide +kernel
  have q3 : pHas 28 3 = false := by decide +kernel
  unfold pGood at g
  simp only [q0, q1, q2, q3, Bool.not_true, Bool.not_false, Bool.false_or, Bool.true_or, Bool.and_true, Bool.true_and, Bool.and_eq_true] at g
  obtain ⟨⟨g0, g1⟩, g2⟩ := g
  have s0 : pSho 28 0 = false := by decide +kernel
  have g0 : 0 ≤ d ∧ d ≤ 31 ∧ (28 < 48 ∨ 28 = 74 ∨ ¬ d = 0 ∧ ¬ (28 = 56 ∧ d = 2)) := by unfold pReg at g0; rw [if_neg (by rw [s0]; decide)] at g0; exact of_decide_eq_true g0
  have s1 : pSho 28 1 = false := by decide +kernel
  have g1 : 0 ≤ a ∧ a ≤ 31 ∧ (28 < 48 ∨ 28 = 74 ∨ ¬ a = 0 ∧ ¬ (28 = 56 ∧ a = 2)) := by unfold pReg at g1; rw [if_neg (by rw [s1]; decide)] at g1; exact of_decide_eq_true g1
  have s2 : pSho 28 2 = false := by decide +kernel
  have g2 : 0 ≤ b ∧ b ≤ 31 ∧ (28 < 48 ∨ 28 = 74 ∨ ¬ b = 0 ∧ ¬ (28 = 56 ∧ b = 2)) := by unfold pReg at g2; rw [if_neg (by rw [s2]; decide)] at g2; exact of_decide_eq_true g2
  have r := pPut_28 d a b i (by omega) (by omega) (by omega)
  refine ⟨r.1, r.2.trans ?_⟩
  unfold nrm
  rw [q0, q1, q2, q3]
  rfl
theorem rt_29 (d a b i : Int) (g : pGood 29 (d, a, b, i) = true) : pTk 29 (pPut 29 (d, a, b, i)) = true ∧ pPt 29 (pPut 29 (d, a, b, i)) = nrm 29 (d, a, b, i) := by
  have q0 : pHas 29 0 = true := by decide +kernel
  have q1 : pHas 29 1 = true := by decide +kernel
  have q2 : pHas 29 2 = true := by decide +kernel
  have q3 : pHas 29 3 = false := by decide +kernel
  unfold pGood at g
  simp only [q0, q1, q2, q3, Bool.not_true, Bool.not_false, Bool.false_or, Bool.true_or, Bool.and_true, Bool.true_and, Bool.and_eq_true] at g
  obtain ⟨⟨g0, g1⟩, g2⟩ := g
  have s0 : pSho 29 0 = false := by decide +kernel
  have g0 : 0 ≤ d ∧ d ≤ 31 ∧ (29 < 48 ∨ 29 = 74 ∨ ¬ d = 0 ∧ ¬ (29 = 56 ∧ d = 2)) := by unfold pReg at g0; rw [if_neg (by rw [s0]; decide)] at g0; exact of_decide_eq_true g0
  have s1 : pSho 29 1 = false := by decide +kernel
  have g1 : 0 ≤ a ∧ a ≤ 31 ∧ (29 < 48 ∨ 29 = 74 ∨ ¬ a = 0 ∧ ¬ (29 = 56 ∧ a = 2)) := by unfold pReg at g1; rw [if_neg (by rw [s1]; decide)] at g1; exact of_decide_eq_true g1
  have s2 : pSho 29 2 = false := by decide +kernel
  have g2 : 0 ≤ b ∧ b ≤ 31 ∧ (29 < 48 ∨ 29 = 74 ∨ ¬ b = 0 ∧ ¬ (29 = 56 ∧ b = 2)) := by unfold pReg at g2; rw [if_neg (by rw [s2]; decide)] at g2; exact of_decide_eq_true g2
  have r := pPut_29 d a b i (by omega) (by omega) (by omega)
  refine ⟨r.1, r.2.trans ?_⟩
  unfold nrm
  rw [q0, q1, q2, q3]
  rfl
theorem rt_30 (d a b i : Int) (g : pGood 30 (d, a, b, i) = true) : pTk 30 (pPut 30 (d, a, b, i)) = true ∧ pPt 30 (pPut 30 (d, a, b, i)) = nrm 30 (d, a, b, i) := by
  have q0 : pHas 30 0 = true := by decide +kernel
  have q1 : pHas 30 1 = true := by decide +kernel
  have q2 : pHas 30 2 = true := by decide +kernel
  have q3 : pHas 30 3 = false := by decide +kernel
  unfold pGood at g
  simp only [q0, q1, q2, q3, Bool.not_true, Bool.not_false, Bool.false_or, Bool.true_or, Bool.and_true, Bool.true_and, Bool.and_eq_true] at g
  obtain ⟨⟨g0, g1⟩, g2⟩ := g
  have s0 : pSho 30 0 = false := by decide +kernel
  have g0 : 0 ≤ d ∧ d ≤ 31 ∧ (30 < 48 ∨ 30 = 74 ∨ ¬ d = 0 ∧ ¬ (30 = 56 ∧ d = 2)) := by unfold pReg at g0; rw [if_neg (by rw [s0]; decide)] at g0; exact of_decide_eq_true g0
  have s1 : pSho 30 1 = false := by decide +kernel
  have g1 : 0 ≤ a ∧ a ≤ 31 ∧ (30 < 48 ∨ 30 = 74 ∨ ¬ a = 0 ∧ ¬ (30 = 56 ∧ a = 2)) := by unfold pReg at g1; rw [if_neg (by rw [s1]; decide)] at g1; exact of_decide_eq_true g1
  have s2 : pSho 30 2 = false := by decide +kernel
  have g2 : 0 ≤ b ∧ b ≤ 31 ∧ (30 < 48 ∨ 30 = 74 ∨ ¬ b = 0 ∧ ¬ (30 = 56 ∧ b = 2)) := by unfold pReg at g2; rw [if_neg (by rw [s2]; decide)] at g2; exact of_decide_eq_true g2
  have r := pPut_30 d a b i (by omega) (by omega) (by omega)
  refine ⟨r.1, r.2.trans ?_⟩
  unfold nrm
  rw [q0, q1, q2, q3]
  rfl
theorem rt_31 (d a b i : Int) (g : pGood 31 (d, a, b, i) = true) : pTk 31 (pPut 31 (d, a, b, i)) = true ∧ pPt 31 (pPut 31 (d, a, b, i)) = nrm 31 (d, a, b, i) := by
  have q0 : pHas 31 0 = true := by decide +kernel
  have q1 : pHas 31 1 = true := by decide +kernel
  have q2 : pHas 31 2 = true := by decide +kernel
  have q3 : pHas 31 3 = false := by decide +kernel
  unfold pGood at g
  simp only [q0, q1, q2, q3, Bool.not_true, Bool.not_false, Bool.false_or, Bool.true_or, Bool.and_true, Bool.true_and, Bool.and_eq_true] at g
  obtain ⟨⟨g0, g1⟩, g2⟩ := g
  have s0 : pSho 31 0 = false := by decide +kernel
  have g0 : 0 ≤ d ∧ d ≤ 31 ∧ (31 < 48 ∨ 31 = 74 ∨ ¬ d = 0 ∧ ¬ (31 = 56 ∧ d = 2)) := by unfold pReg at g0; rw [if_neg (by rw [s0]; decide)] at g0; exact of_decide_eq_true g0
  have s1 : pSho 31 1 = false := by decide +kernel
  have g1 : 0 ≤ a ∧ a ≤ 31 ∧ (31 < 48 ∨ 31 = 74 ∨ ¬ a = 0 ∧ ¬ (31 = 56 ∧ a = 2)) := by unfold pReg at g1; rw [if_neg (by rw [s1]; decide)] at g1; exact of_decide_eq_true g1
  have s2 : pSho 31 2 = false := by decide +kernel
  have g2 : 0 ≤ b ∧ b ≤ 31 ∧ (31 < 48 ∨ 31 = 74 ∨ ¬ b = 0 ∧ ¬ (31 = 56 ∧ b = 2)) := by unfold pReg at g2; rw [if_neg (by rw [s2]; decide)] at g2; exact of_decide_eq_true g2
  have r := pPut_31 d a b i (by omega) (by omega) (by omega)
  refine ⟨r.1, r.2.trans ?_⟩
  unfold nrm
  rw [q0, q1, q2, q3]
  rfl
theorem rt_32 (d a b i : Int) (g : pGood 32 (d, a, b, i) = true) : pTk 32 (pPut 32 (d, a, b, i)) = true ∧ pPt 32 (pPut 32 (d, a, b, i)) = nrm 32 (d, a, b, i) := by
  have q0 : pHas 32 0 = true := by decide +kernel
  have q1 : pHas 32 1 = true := by decide +kernel
  have q2 : pHas 32 2 = true := by decide +kernel
  have q3 : pHas 32 3 = false := by decide +kernel
  unfold pGood at g
  simp only [q0, q1, q2, q3, Bool.not_true, Bool.not_false, Bool.false_or, Bool.true_or, Bool.and_true, Bool.true_and, Bool.and_eq_true] at g
  obtain ⟨⟨g0, g1⟩, g2⟩ := g
  have s0 : pSho 32 0 = false := by decide +kernel
  have g0 : 0 ≤ d ∧ d ≤ 31 ∧ (32 < 48 ∨ 32 = 74 ∨ ¬ d = 0 ∧ ¬ (32 = 56 ∧ d = 2)) := by unfold pReg at g0; rw [if_neg (by rw [s0]; decide)] at g0; exact of_decide_eq_true g0
  have s1 : pSho 32 1 = false := by decide +kernel
  have g1 : 0 ≤ a ∧ a ≤ 31 ∧ (32 < 48 ∨ 32 = 74 ∨ ¬ a = 0 ∧ ¬ (32 = 56 ∧ a = 2)) := by unfold pReg at g1; rw [if_neg (by rw [s1]; decide)] at g1; exact of_decide_eq_true g1
  have s2 : pSho 32 2 = false := by decide +kernel
  have g2 : 0 ≤ b ∧ b ≤ 31 ∧ (32 < 48 ∨ 32 = 74 ∨ ¬ b = 0 ∧ ¬ (32 = 56 ∧ b = 2)) := by unfold pReg at g2; rw [if_neg (by rw [s2]; decide)] at g2; exact of_decide_eq_true g2
  have r := pPut_32 d a b i (by omega) (by omega) (by omega)
  refine ⟨r.1, r.2.trans ?_⟩
  unfold nrm
  rw [q0, q1, q2, q3]
  rfl
theorem rt_33 (d a b i : Int) (g : pGood 33 (d, a, b, i) = true) : pTk 33 (pPut 33 (d, a, b, i)) = true ∧ pPt 33 (pPut 33 (d, a, b, i)) = nrm 33 (d, a, b, i) := by
  have q0 : pHas 33 0 = true := by decide +kernel
  have q1 : pHas 33 1 = true := by decide +kernel
  have q2 : pHas 33 2 = true := by decide +kernel
  have q3 : pHas 33 3 = false := by decide +kernel
  unfold pGood at g
  simp only [q0, q1, q2, q3, Bool.not_true, Bool.not_false, Bool.false_or, Bool.true_or, Bool.and_true, Bool.true_and, Bool.and_eq_true] at g
  obtain ⟨⟨g0, g1⟩, g2⟩ := g
  have s0 : pSho 33 0 = false := by decide +kernel
  have g0 : 0 ≤ d ∧ d ≤ 31 ∧ (33 < 48 ∨ 33 = 74 ∨ ¬ d = 0 ∧ ¬ (33 = 56 ∧ d = 2)) := by unfold pReg at g0; rw [if_neg (by rw [s0]; decide)] at g0; exact of_decide_eq_true g0
  have s1 : pSho 33 1 = false := by decide +kernel
  have g1 : 0 ≤ a ∧ a ≤ 31 ∧ (33 < 48 ∨ 33 = 74 ∨ ¬ a = 0 ∧ ¬ (33 = 56 ∧ a = 2)) := by unfold pReg at g1; rw [if_neg (by rw [s1]; decide)] at g1; exact of_decide_eq_true g1
  have s2 : pSho 33 2 = false := by decide +kernel
  have g2 : 0 ≤ b ∧ b ≤ 31 ∧ (33 < 48 ∨ 33 = 74 ∨ ¬ b = 0 ∧ ¬ (33 = 56 ∧ b = 2)) := by unfold pReg at g2; rw [if_neg (by rw [s2]; decide)] at g2; exact of_decide_eq_true g2
  have r := pPut_33 d a b i (by omega) (by omega) (by omega)
  refine ⟨r.1, r.2.trans ?_⟩
  unfold nrm
  rw [q0, q1, q2, q3]
  rfl
theorem rt_34 (d a b i : Int) (g : pGood 34 (d, a, b, i) = true) : pTk 34 (pPut 34 (d, a, b, i)) = true ∧ pPt 34 (pPut 34 (d, a, b, i)) = nrm 34 (d, a, b, i) := by
  have q0 : pHas 34 0 = true := by decide +kernel
  have q1 : pHas 34 1 = true := by decide +kernel
  have q2 : pHas 34 2 = true := by decide +kernel
  have q3 : pHas 34 3 = false := by decide +kernel
  unfold pGood at g
  simp only [q0, q1, q2, q3, Bool.not_true, Bool.not_false, Bool.false_or, Bool.true_or, Bool.and_true, Bool.true_and, Bool.and_eq_true] at g
  obtain ⟨⟨g0, g1⟩, g2⟩ := g
  have s0 : pSho 34 0 = false := by decide +kernel
  have g0 : 0 ≤ d ∧ d ≤ 31 ∧ (34 < 48 ∨ 34 = 74 ∨ ¬ d = 0 ∧ ¬ (34 = 56 ∧ d = 2)) := by unfold pReg at g0; rw [if_neg (by rw [s0]; decide)] at g0; exact of_decide_eq_true g0
  have s1 : pSho 34 1 = false := by decide +kernel
  have g1 : 0 ≤ a ∧ a ≤ 31 ∧ (34 < 48 ∨ 34 = 74 ∨ ¬ a = 0 ∧ ¬ (34 = 56 ∧ a = 2)) := by unfold pReg at g1; rw [if_neg (by rw [s1]; decide)] at g1; exact of_decide_eq_true g1
  have s2 : pSho 34 2 = false := by decide +kernel
  have g2 : 0 ≤ b ∧ b ≤ 31 ∧ (34 < 48 ∨ 34 = 74 ∨ ¬ b = 0 ∧ ¬ (34 = 56 ∧ b = 2)) := by unfold pReg at g2; rw [if_neg (by rw [s2]; decide)] at g2; exact of_decide_eq_true g2
  have r := pPut_34 d a b i (by omega) (by omega) (by omega)
  refine ⟨r.1, r.2.trans ?_⟩
  unfold nrm
  rw [q0, q1, q2, q3]
  rfl
theorem rt_35 (d a b i : Int) (g : pGood 35 (d, a, b, i) = true) : pTk 35 (pPut 35 (d, a, b, i)) = true ∧ pPt 35 (pPut 35 (d, a, b, i)) = nrm 35 (d, a, b, i) := by
  have q0 : pHas 35 0 = true := by decide +kernel
  have q1 : pHas 35 1 = true := by decide +kernel
  have q2 : pHas 35 2 = true := by decide +kernel
  have q3 : pHas 35 3 = false := by decide +kernel
  unfold pGood at g
  simp only [q0, q1, q2, q3, Bool.not_true, Bool.not_false, Bool.false_or, Bool.true_or, Bool.and_true, Bool.true_and, Bool.and_eq_true] at g
  obtain ⟨⟨g0, g1⟩, g2⟩ := g
  have s0 : pSho 35 0 = false := by decide +kernel
  have g0 : 0 ≤ d ∧ d ≤ 31 ∧ (35 < 48 ∨ 35 = 74 ∨ ¬ d = 0 ∧ ¬ (35 = 56 ∧ d = 2)) := by unfold pReg at g0; rw [if_neg (by rw [s0]; decide)] at g0; exact of_decide_eq_true g0
  have s1 : pSho 35 1 = false := by decide +kernel
  have g1 : 0 ≤ a ∧ a ≤ 31 ∧ (35 < 48 ∨ 35 = 74 ∨ ¬ a = 0 ∧ ¬ (35 = 56 ∧ a = 2)) := by unfold pReg at g1; rw [if_neg (by rw [s1]; decide)] at g1; exact of_decide_eq_true g1
  have s2 : pSho 35 2 = false := by decide +kernel
  have g2 : 0 ≤ b ∧ b ≤ 31 ∧ (35 < 48 ∨ 35 = 74 ∨ ¬ b = 0 ∧ ¬ (35 = 56 ∧ b = 2)) := by unfold pReg at g2; rw [if_neg (by rw [s2]; decide)] at g2; exact of_decide_eq_true g2
  have r := pPut_35 d a b i (by omega) (by omega) (by omega)
  refine ⟨r.1, r.2.trans ?_⟩
  unfold nrm
  rw [q0, q1, q2, q3]
  rfl
theorem rt_36 (d a b i : Int) (g : pGood 36 (d, a, b, i) = true) : pTk 36 (pPut 36 (d, a, b, i)) = true ∧ pPt 36 (pPut 36 (d, a, b, i)) = nrm 36 (d, a, b, i) := by
  have q0 : pHas 36 0 = true := by decide +kernel
  have q1 : pHas 36 1 = true := by decide +kernel
  have q2 : pHas 36 2 = true := by decide +kernel
  have q3 : pHas 36 3 = false := by decide +kernel
  unfold pGood at g
  simp only [q0, q1, q2, q3, Bool.not_true, Bool.not_false, Bool.false_or, Bool.true_or, Bool.and_true, Bool.true_and, Bool.and_eq_true] at g
  obtain ⟨⟨g0, g1⟩, g2⟩ := g
  have s0 : pSho 36 0 = false := by decide +kernel
  have g0 : 0 ≤ d ∧ d ≤ 31 ∧ (36 < 48 ∨ 36 = 74 ∨ ¬ d = 0 ∧ ¬ (36 = 56 ∧ d = 2)) := by unfold pReg at g0; rw [if_neg (by rw [s0]; decide)] at g0; exact of_decide_eq_true g0
  have s1 : pSho 36 1 = false := by decide +kernel
  have g1 : 0 ≤ a ∧ a ≤ 31 ∧ (36 < 48 ∨ 36 = 74 ∨ ¬ a = 0 ∧ ¬ (36 = 56 ∧ a = 2)) := by unfold pReg at g1; rw [if_neg (by rw [s1]; decide)] at g1; exact of_decide_eq_true g1
  have s2 : pSho 36 2 = false := by decide +kernel
  have g2 : 0 ≤ b ∧ b ≤ 31 ∧ (36 < 48 ∨ 36 = 74 ∨ ¬ b = 0 ∧ ¬ (36 = 56 ∧ b = 2)) := by unfold pReg at g2; rw [if_neg (by rw [s2]; decide)] at g2; exact of_decide_eq_true g2
  have r := pPut_36 d a b i (by omega) (by omega) (by omega)
  refine ⟨r.1, r.2.trans ?_⟩
  unfold nrm
  rw [q0, q1, q2, q3]
  rfl
theorem rt_37 (d a b i : Int) (g : pGood 37 (d, a, b, i) = true) : pTk 37 (pPut 37 (d, a, b, i)) = true ∧ pPt 37 (pPut 37 (d, a, b, i)) = nrm 37 (d, a, b, i) := by
  have q0 : pHas 37 0 = true := by decide +kernel
  have q1 : pHas 37 1 = true := by decide +kernel
  have q2 : pHas 37 2 = true := by decide +kernel
  have q3 : pHas 37 3 = false := by decide +kernel
  unfold pGood at g
  simp only [q0, q1, q2, q3, Bool.not_true, Bool.not_false, Bool.false_or, Bool.true_or, Bool.and_true, Bool.true_and, Bool.and_eq_true] at g
  obtain ⟨⟨g0, g1⟩, g2⟩ := g
  have s0 : pSho 37 0 = false := by decide +kernel
  have g0 : 0 ≤ d ∧ d ≤ 31 ∧ (37 < 48 ∨ 37 = 74 ∨ ¬ d = 0 ∧ ¬ (37 = 56 ∧ d = 2)) := by unfold pReg at g0; rw [if_neg (by rw [s0]; decide)] at g0; exact of_decide_eq_true g0
  have s1 : pSho 37 1 = false := by decide +kernel
  have g1 : 0 ≤ a ∧ a ≤ 31 ∧ (37 < 48 ∨ 37 = 74 ∨ ¬ a = 0 ∧ ¬ (37 = 56 ∧ a = 2)) := by unfold pReg at g1; rw [if_neg (by rw [s1]; decide)] at g1; exact of_decide_eq_true g1
  have s2 : pSho 37 2 = false := by decide +kernel
  have g2 : 0 ≤ b ∧ b ≤ 31 ∧ (37 < 48 ∨ 37 = 74 ∨ ¬ b = 0 ∧ ¬ (37 = 56 ∧ b = 2)) := by unfold pReg at g2; rw [if_neg (by rw [s2]; decide)] at g2; exact of_decide_eq_true g2
  have r := pPut_37 d a b i (by omega) (by omega) (by omega)
  refine ⟨r.1, r.2.trans ?_⟩
  unfold nrm
  rw [q0, q1, q2, q3]
  rfl
theorem rt_38 (d a b i : Int) (g : pGood 38 (d, a, b, i) = true) : pTk 38 (pPut 38 (d, a, b, i)) = true ∧ pPt 38 (pPut 38 (d, a, b, i)) = nrm 38 (d, a, b, i) := by
  have q0 : pHas 38 0 = true := by decide +kernel
  have q1 : pHas 38 1 = true := by decide +kernel
  have q2 : pHas 38 2 = true := by decide +kernel
  have q3 : pHas 38 3 = false := by decide +kernel
  unfold pGood at g
  simp only [q0, q1, q2, q3, Bool.not_true, Bool.not_false, Bool.false_or, Bool.true_or, Bool.and_true, Bool.true_and, Bool.and_eq_true] at g
  obtain ⟨⟨g0, g1⟩, g2⟩ := g
  have s0 : pSho 38 0 = false := by decide +kernel
  have g0 : 0 ≤ d ∧ d ≤ 31 ∧ (38 < 48 ∨ 38 = 74 ∨ ¬ d = 0 ∧ ¬ (38 = 56 ∧ d = 2)) := by unfold pReg at g0; rw [if_neg (by rw [s0]; decide)] at g0; exact of_decide_eq_true g0
  have s1 : pSho 38 1 = false := by decide +kernel
  have g1 : 0 ≤ a ∧ a ≤ 31 ∧ (38 < 48 ∨ 38 = 74 ∨ ¬ a = 0 ∧ ¬ (38 = 56 ∧ a = 2)) := by unfold pReg at g1; rw [if_neg (by rw [s1]; decide)] at g1; exact of_decide_eq_true g1
  have s2 : pSho 38 2 = false := by decide +kernel
  have g2 : 0 ≤ b ∧ b ≤ 31 ∧ (38 < 48 ∨ 38 = 74 ∨ ¬ b = 0 ∧ ¬ (38 = 56 ∧ b = 2)) := by unfold pReg at g2; rw [if_neg (by rw [s2]; decide)] at g2; exact of_decide_eq_true g2
  have r := pPut_38 d a b i (by omega) (by omega) (by omega)
  refine ⟨r.1, r.2.trans ?_⟩
  unfold nrm
  rw [q0, q1, q2, q3]
  rfl
theorem rt_39 (d a b i : Int) (g : pGood 39 (d, a, b, i) = true) : pTk 39 (pPut 39 (d, a, b, i)) = true ∧ pPt 39 (pPut 39 (d, a, b, i)) = nrm 39 (d, a, b, i) := by
  have q0 : pHas 39 0 = true := by decide +kernel
  have q1 : pHas 39 1 = true := by decide +kernel
  have q2 : pHas 39 2 = true := by decide +kernel
  have q3 : pHas 39 3 = false := by decide +kernel
  unfold pGood at g
  simp only [q0, q1, q2, q3, Bool.not_true, Bool.not_false, Bool.false_or, Bool.true_or, Bool.and_true, Bool.true_and, Bool.and_eq_true] at g
  obtain ⟨⟨g0, g1⟩, g2⟩ := g
  have s0 : pSho 39 0 = false := by decide +kernel
  have g0 : 0 ≤ d ∧ d ≤ 31 ∧ (39 < 48 ∨ 39 = 74 ∨ ¬ d = 0 ∧ ¬ (39 = 56 ∧ d = 2)) := by unfold pReg at g0; rw [if_neg (by rw [s0]; decide)] at g0; exact of_decide_eq_true g0
  have s1 : pSho 39 1 = false := by decide +kernel
  have g1 : 0 ≤ a ∧ a ≤ 31 ∧ (39 < 48 ∨ 39 = 74 ∨ ¬ a = 0 ∧ ¬ (39 = 56 ∧ a = 2)) := by unfold pReg at g1; rw [if_neg (by rw [s1]; decide)] at g1; exact of_decide_eq_true g1
  have s2 : pSho 39 2 = false := by decide +kernel
  have g2 : 0 ≤ b ∧ b ≤ 31 ∧ (39 < 48 ∨ 39 = 74 ∨ ¬ b = 0 ∧ ¬ (39 = 56 ∧ b = 2)) := by unfold pReg at g2; rw [if_neg (by rw [s2]; decide)] at g2; exact of_decide_eq_true g2
  have r := pPut_39 d a b i (by omega) (by omega) (by omega)
  refine ⟨r.1, r.2.trans ?_⟩
  unfold nrm
  rw [q0, q1, q2, q3]
  rfl
theorem rt_40 (d a b i : Int) (g : pGood 40 (d, a, b, i) = true) : pTk 40 (pPut 40 (d, a, b, i)) = true ∧ pPt 40 (pPut 40 (d, a, b, i)) = nrm 40 (d, a, b, i) := by
  have q0 : pHas 40 0 = true := by decide +kernel
  have q1 : pHas 40 1 = true := by decide +kernel
  have q2 : pHas 40 2 = true := by decide +kernel
  have q3 : pHas 40 3 = false := by decide +kernel
  unfold pGood at g
  simp only [q0, q1, q2, q3, Bool.not_true, Bool.not_false, Bool.false_or, Bool.true_or, Bool.and_true, Bool.true_and, Bool.and_eq_true] at g
  obtain ⟨⟨g0, g1⟩, g2⟩ := g
  have s0 : pSho 40 0 = false := by decide +kernel
  have g0 : 0 ≤ d ∧ d ≤ 31 ∧ (40 < 48 ∨ 40 = 74 ∨ ¬ d = 0 ∧ ¬ (40 = 56 ∧ d = 2)) := by unfold pReg at g0; rw [if_neg (by rw [s0]; decide)] at g0; exact of_decide_eq_true g0
  have s1 : pSho 40 1 = false := by decide +kernel
  have g1 : 0 ≤ a ∧ a ≤ 31 ∧ (40 < 48 ∨ 40 = 74 ∨ ¬ a = 0 ∧ ¬ (40 = 56 ∧ a = 2)) := by unfold pReg at g1; rw [if_neg (by rw [s1]; decide)] at g1; exact of_decide_eq_true g1
  have s2 : pSho 40 2 = false := by decide +kernel
  have g2 : 0 ≤ b ∧ b ≤ 31 ∧ (40 < 48 ∨ 40 = 74 ∨ ¬ b = 0 ∧ ¬ (40 = 56 ∧ b = 2)) := by unfold pReg at g2; rw [if_neg (by rw [s2]; decide)] at g2; exact of_decide_eq_true g2
  have r := pPut_40 d a b i (by omega) (by omega) (by omega)
  refine ⟨r.1, r.2.trans ?_⟩
  unfold nrm
  rw [q0, q1, q2, q3]
  rfl
theorem rt_41 (d a b i : Int) (g : pGood 41 (d, a, b, i) = true) : pTk 41 (pPut 41 (d, a, b, i)) = true ∧ pPt 41 (pPut 41 (d, a, b, i)) = nrm 41 (d, a, b, i) := by
  have q0 : pHas 41 0 = true := by decide +kernel
  have q1 : pHas 41 1 = true := by decide +kernel
  have q2 : pHas 41 2 = true := by decide +kernel
  have q3 : pHas 41 3 = false := by decide +kernel
  unfold pGood at g
  simp only [q0, q1, q2, q3, Bool.not_true, Bool.not_false, Bool.false_or, Bool.true_or, Bool.and_true, Bool.true_and, Bool.and_eq_true] at g
  obtain ⟨⟨g0, g1⟩, g2⟩ := g
  have s0 : pSho 41 0 = false := by decide +kernel
  have g0 : 0 ≤ d ∧ d ≤ 31 ∧ (41 < 48 ∨ 41 = 74 ∨ ¬ d = 0 ∧ ¬ (41 = 56 ∧ d = 2)) := by unfold pReg at g0; rw [if_neg (by rw [s0]; decide)] at g0; exact of_decide_eq_true g0
  have s1 : pSho 41 1 = false := by decide +kernel
  have g1 : 0 ≤ a ∧ a ≤ 31 ∧ (41 < 48 ∨ 41 = 74 ∨ ¬ a = 0 ∧ ¬ (41 = 56 ∧ a = 2)) := by unfold pReg at g1; rw [if_neg (by rw [s1]; decide)] at g1; exact of_decide_eq_true g1
  have s2 : pSho 41 2 = false := by decide +kernel
  have g2 : 0 ≤ b ∧ b ≤ 31 ∧ (41 < 48 ∨ 41 = 74 ∨ ¬ b = 0 ∧ ¬ (41 = 56 ∧ b = 2)) := by unfold pReg at g2; rw [if_neg (by rw [s2]; decide)] at g2; exact of_decide_eq_true g2
  have r := pPut_41 d a b i (by omega) (by omega) (by omega)
  refine ⟨r.1, r.2.trans ?_⟩
  unfold nrm
  rw [q0, q1, q2, q3]
  rfl
theorem rt_42 (d a b i : Int) (g : pGood 42 (d, a, b, i) = true) : pTk 42 (pPut 42 (d, a, b, i)) = true ∧ pPt 42 (pPut 42 (d, a, b, i)) = nrm 42 (d, a, b, i) := by
  have q0 : pHas 42 0 = true := by decide +kernel
  have q1 : pHas 42 1 = true := by decide +kernel
  have q2 : pHas 42 2 = true := by decide +kernel
  have q3 : pHas 42 3 = false := by decide +kernel
  unfold pGood at g
  simp only [q0, q1, q2, q3, Bool.not_true, Bool.not_false, Bool.false_or, Bool.true_or, Bool.and_true, Bool.true_and, Bool.and_eq_true] at g
  obtain ⟨⟨g0, g1⟩, g2⟩ := g
  have s0 : pSho 42 0 = false := by decide +kernel
  have g0 : 0 ≤ d ∧ d ≤ 31 ∧ (42 < 48 ∨ 42 = 74 ∨ ¬ d = 0 ∧ ¬ (42 = 56 ∧ d = 2)) := by unfold pReg at g0; rw [if_neg (by rw [s0]; decide)] at g0; exact of_decide_eq_true g0
  have s1 : pSho 42 1 = false := by decide +kernel
  have g1 : 0 ≤ a ∧ a ≤ 31 ∧ (42 < 48 ∨ 42 = 74 ∨ ¬ a = 0 ∧ ¬ (42 = 56 ∧ a = 2)) := by unfold pReg at g1; rw [if_neg (by rw [s1]; decide)] at g1; exact of_decide_eq_true g1
  have s2 : pSho 42 2 = false := by decide +kernel
  have g2 : 0 ≤ b ∧ b ≤ 31 ∧ (42 < 48 ∨ 42 = 74 ∨ ¬ b = 0 ∧ ¬ (42 = 56 ∧ b = 2)) := by unfold pReg at g2; rw [if_neg (by rw [s2]; decide)] at g2; exact of_decide_eq_true g2
  have r := pPut_42 d a b i (by omega) (by omega) (by omega)
  refine ⟨r.1, r.2.trans ?_⟩
  unfold nrm
  rw [q0, q1, q2, q3]
  rfl
theorem rt_43 (d a b i : Int) (g : pGood 43 (d, a, b, i) = true) : pTk 43 (pPut 43 (d, a, b, i)) = true ∧ pPt 43 (pPut 43 (d, a, b, i)) = nrm 43 (d, a, b, i) := by
  have q0 : pHas 43 0 = true := by decide +kernel
  have q1 : pHas 43 1 = true := by decide +kernel
  have q2 : pHas 43 2 = true := by decide +kernel
  have q3 : pHas 43 3 = false := by decide +kernel
  unfold pGood at g
  simp only [q0, q1, q2, q3, Bool.not_true, Bool.not_false, Bool.false_or, Bool.true_or, Bool.and_true, Bool.true_and, Bool.and_eq_true] at g
  obtain ⟨⟨g0, g1⟩, g2⟩ := g
  have s0 : pSho 43 0 = false := by decide +kernel
  have g0 : 0 ≤ d ∧ d ≤ 31 ∧ (43 < 48 ∨ 43 = 74 ∨ ¬ d = 0 ∧ ¬ (43 = 56 ∧ d = 2)) := by unfold pReg at g0; rw [if_neg (by rw [s0]; decide)] at g0; exact of_decide_eq_true g0
  have s1 : pSho 43 1 = false := by decide +kernel
  have g1 : 0 ≤ a ∧ a ≤ 31 ∧ (43 < 48 ∨ 43 = 74 ∨ ¬ a = 0 ∧ ¬ (43 = 56 ∧ a = 2)) := by unfold pReg at g1; rw [if_neg (by rw [s1]; decide)] at g1; exact of_decide_eq_true g1
  have s2 : pSho 43 2 = false := by decide +kernel
  have g2 : 0 ≤ b ∧ b ≤ 31 ∧ (43 < 48 ∨ 43 = 74 ∨ ¬ b = 0 ∧ ¬ (43 = 56 ∧ b = 2)) := by unfold pReg at g2; rw [if_neg (by rw [s2]; decide)] at g2; exact of_decide_eq_true g2
  have r := pPut_43 d a b i (by omega) (by omega) (by omega)
  refine ⟨r.1, r.2.trans ?_⟩
  unfold nrm
  rw [q0, q1, q2, q3]
  rfl
theorem rt_44 (d a b i : Int) (g : pGood 44 (d, a, b, i) = true) : pTk 44 (pPut 44 (d, a, b, i)) = true ∧ pPt 44 (pPut 44 (d, a, b, i)) = nrm 44 (d, a, b, i) := by
  have q0 : pHas 44 0 = true := by decide +kernel
  have q1 : pHas 44 1 = true := by decide +kernel
  have q2 : pHas 44 2 = true := by decide +kernel
  have q3 : pHas 44 3 = false := by decide +kernel
  unfold pGood at g
  simp only [q0, q1, q2, q3, Bool.not_true, Bool.not_false, Bool.false_or, Bool.true_or, Bool.and_true, Bool.true_and, Bool.and_eq_true] at g
  obtain ⟨⟨g0, g1⟩, g2⟩ := g
  have s0 : pSho 44 0 = false := by decide +kernel
  have g0 : 0 ≤ d ∧ d ≤ 31 ∧ (44 < 48 ∨ 44 = 74 ∨ ¬ d = 0 ∧ ¬ (44 = 56 ∧ d = 2)) := by unfold pReg at g0; rw [if_neg (by rw [s0]; decide)] at g0; exact of_decide_eq_true g0
  have s1 : pSho 44 1 = false := by decide +kernel
  have g1 : 0 ≤ a ∧ a ≤ 31 ∧ (44 < 48 ∨ 44 = 74 ∨ ¬ a = 0 ∧ ¬ (44 = 56 ∧ a = 2)) := by unfold pReg at g1; rw [if_neg (by rw [s1]; decide)] at g1; exact of_decide_eq_true g1
  have s2 : pSho 44 2 = false := by decide +kernel
  have g2 : 0 ≤ b ∧ b ≤ 31 ∧ (44 < 48 ∨ 44 = 74 ∨ ¬ b = 0 ∧ ¬ (44 = 56 ∧ b = 2)) := by unfold pReg at g2; rw [if_neg (by rw [s2]; decide)] at g2; exact of_decide_eq_true g2
  have r := pPut_44 d a b i (by omega) (by omega) (by omega)
  refine ⟨r.1, r.2.trans ?_⟩
  unfold nrm
  rw [q0, q1, q2, q3]
  rfl
theorem rt_45 (d a b i : Int) (g : pGood 45 (d, a, b, i) = true) : pTk 45 (pPut 45 (d, a, b, i)) = true ∧ pPt 45 (pPut 45 (d, a, b, i)) = nrm 45 (d, a, b, i) := by
  have q0 : pHas 45 0 = false := by decide +kernel
  have q1 : pHas 45 1 = false := by decide +kernel
  have q2 : pHas 45 2 = false := by decide +kernel
  have q3 : pHas 45 3 = false := by decide +kernel
  unfold pGood at g
  simp only [q0, q1, q2, q3, Bool.not_true, Bool.not_false, Bool.false_or, Bool.true_or, Bool.and_true, Bool.true_and, Bool.and_eq_true] at g
  have r := pPut_45 d a b i 
  refine ⟨r.1, r.2.trans ?_⟩
  unfold nrm
  rw [q0, q1, q2, q3]
  rfl
theorem rt_46 (d a b i : Int) (g : pGood 46 (d, a, b, i) = true) : pTk 46 (pPut 46 (d, a, b, i)) = true ∧ pPt 46 (pPut 46 (d, a, b, i)) = nrm 46 (d, a, b, i) := by
  have q0 : pHas 46 0 = false := by decide +kernel
  have q1 : pHas 46 1 = false := by decide +kernel
  have q2 : pHas 46 2 = false := by decide +kernel
  have q3 : pHas 46 3 = false := by decide +kernel
  unfold pGood at g
  simp only [q0, q1, q2, q3, Bool.not_true, Bool.not_false, Bool.false_or, Bool.true_or, Bool.and_true, Bool.true_and, Bool.and_eq_true] at g
  have r := pPut_46 d a b i 
  refine ⟨r.1, r.2.trans ?_⟩
  unfold nrm
  rw [q0, q1, q2, q3]
  rfl
theorem rt_47 (d a b i : Int) (g : pGood 47 (d, a, b, i) = true) : pTk 47 (pPut 47 (d, a, b, i)) = true ∧ pPt 47 (pPut 47 (d, a, b, i)) = nrm 47 (d, a, b, i) := by
  have q0 : pHas 47 0 = false := by decide +kernel
  have q1 : pHas 47 1 = false := by decide +kernel
  have q2 : pHas 47 2 = false := by decide +kernel
  have q3 : pHas 47 3 = false := by decide +kernel
  unfold pGood at g
  simp only [q0, q1, q2, q3, Bool.not_true, Bool.not_false, Bool.false_or, Bool.true_or, Bool.and_true, Bool.true_and, Bool.and_eq_true] at g
  have r := pPut_47 d a b i 
  refine ⟨r.1, r.2.trans ?_⟩
  unfold nrm
  rw [q0, q1, q2, q3]
  rfl
theorem rt_48 (d a b i : Int) (g : pGood 48 (d, a, b, i) = true) : pTk 48 (pPut 48 (d, a, b, i)) = true ∧ pPt 48 (pPut 48 (d, a, b, i)) = nrm 48 (d, a, b, i) := by
  have q0 : pHas 48 0 = true := by decide +kernel
  have q1 : pHas 48 1 = false := by decide +kernel
  have q2 : pHas 48 2 = false := by decide +kernel
  have q3 : pHas 48 3 = true := by decide +kernel
  unfold pGood at g
  simp only [q0, q1, q2, q3, Bool.not_true, Bool.not_false, Bool.false_or, Bool.true_or, Bool.and_true, Bool.true_and, Bool.and_eq_true] at g
  obtain ⟨g0, g3⟩ := g
  have s0 : pSho 48 0 = true := by decide +kernel
  have g0 : 8 ≤ d ∧ d < 16 := by unfold pReg at g0; rw [if_pos s0] at g0; exact of_decide_eq_true g0
  have g3 := (pImm_48 i).mp g3
  have r := pPut_48 d a b i (by omega) (by omega)
  refine ⟨r.1, r.2.trans ?_⟩
  unfold nrm
  rw [q0, q1, q2, q3]
  rfl
theorem rt_49 (d a b i : Int) (g : pGood 49 (d, a, b, i) = true) : pTk 49 (pPut 49 (d, a, b, i)) = true ∧ pPt 49 (pPut 49 (d, a, b, i)) = nrm 49 (d, a, b, i) := by
  have q0 : pHas 49 0 = true := by decide +kernel
  have q1 : pHas 49 1 = true := by decide +kernel
  have q2 : pHas 49 2 = false := by decide +kernel
  have q3 : pHas 49 3 = true := by decide +kernel
  unfold pGood at g
  simp only [q0, q1, q2, q3, Bool.not_true, Bool.not_false, Bool.false_or, Bool.true_or, Bool.and_true, Bool.true_and, Bool.and_eq_true] at g
  obtain ⟨⟨g0, g1⟩, g3⟩ := g
  have s0 : pSho 49 0 = true := by decide +kernel
  have g0 : 8 ≤ d ∧ d < 16 := by unfold pReg at g0; rw [if_pos s0] at g0; exact of_decide_eq_true g0
  have s1 : pSho 49 1 = true := by decide +kernel
  have g1 : 8 ≤ a ∧ a < 16 := by unfold pReg at g1; rw [if_pos s1] at g1; exact of_decide_eq_true g1
  have g3 := (pImm_49 i).mp g3
  have r := pPut_49 d a b i (by omega) (by omega) (by omega)
  refine ⟨r.1, r.2.trans ?_⟩
  unfold nrm
  rw [q0, q1, q2, q3]
  rfl
theorem rt_50 (d a b i : Int) (g : pGood 50 (d, a, b, i) = true) : pTk 50 (pPut 50 (d, a, b, i)) = true ∧ pPt 50 (pPut 50 (d, a, b, i)) = nrm 50 (d, a, b, i) := by
  have q0 : pHas 50 0 = false := by decide +kernel
  have q1 : pHas 50 1 = true := by decide +kernel
  have q2 : pHas 50 2 = true := by decide +kernel
  have q3 : pHas 50 3 = true := by decide +kernel
  unfold pGood at g
  simp only [q0, q1, q2, q3, Bool.not_true, Bool.not_false, Bool.false_or, Bool.true_or, Bool.and_true, Bool.true_and, Bool.and_eq_true] at g
  obtain ⟨⟨g1, g2⟩, g3⟩ := g
  have s1 : pSho 50 1 = true := by decide +kernel
  have g1 : 8 ≤ a ∧ a < 16 := by unfold pReg at g1; rw [if_pos s1] at g1; exact of_decide_eq_true g1
  have s2 : pSho 50 2 = true := by decide +kernel
  have g2 : 8 ≤ b ∧ b < 16 := by unfold pReg at g2; rw [if_pos s2] at g2; exact of_decide_eq_true g2
  have g3 := (pImm_50 i).mp g3
  have r := pPut_50 d a b i (by omega) (by omega) (by omega)
  refine ⟨r.1, r.2.trans ?_⟩
  unfold nrm
  rw [q0, q1, q2, q3]
  rfl
theorem rt_51 (d a b i : Int) (g : pGood 51 (d, a, b, i) = true) : pTk 51 (pPut 51 (d, a, b, i)) = true ∧ pPt 51 (pPut 51 (d, a, b, i)) = nrm 51 (d, a, b, i) := by
  have q0 : pHas 51 0 = false := by decide +kernel
  have q1 : pHas 51 1 = false := by decide +kernel
  have q2 : pHas 51 2 = false := by decide +kernel
  have q3 : pHas 51 3 = false := by decide +kernel
  unfold pGood at g
  simp only [q0, q1, q2, q3, Bool.not_true, Bool.not_false, Bool.false_or, Bool.true_or, Bool.and_true, Bool.true_and, Bool.and_eq_true] at g
  have r := pPut_51 d a b i 
  refine ⟨r.1, r.2.trans ?_⟩
  unfold nrm
  rw [q0, q1, q2, q3]
  rfl
theorem rt_52 (d a b i : Int) (g : pGood 52 (d, a, b, i) = true) : pTk 52 (pPut 52 (d, a, b, i)) = true ∧ pPt 52 (pPut 52 (d, a, b, i)) = nrm 52 (d, a, b, i) := by
  have q0 : pHas 52 0 = true := by decide +kernel
  have q1 : pHas 52 1 = false := by decide +kernel
  have q2 : pHas 52 2 = false := by decide +kernel
  have q3 : pHas 52 3 = true := by decide +kernel
  unfold pGood at g
  simp only [q0, q1, q2, q3, Bool.not_true, Bool.not_false, Bool.false_or, Bool.true_or, Bool.and_true, Bool.true_and, Bool.and_eq_true] at g
  obtain ⟨g0, g3⟩ := g
  have s0 : pSho 52 0 = false := by decide +kernel
  have g0 : 0 ≤ d ∧ d ≤ 31 ∧ (52 < 48 ∨ 52 = 74 ∨ ¬ d = 0 ∧ ¬ (52 = 56 ∧ d = 2)) := by unfold pReg at g0; rw [if_neg (by rw [s0]; decide)] at g0; exact of_decide_eq_true g0
  have g3 := (pImm_52 i).mp g3
  have r := pPut_52 d a b i (by omega) (by omega)
  refine ⟨r.1, r.2.trans ?_⟩
  unfold nrm
  rw [q0, q1, q2, q3]
  rfl
theorem rt_53 (d a b i : Int) (g : pGood 53 (d, a, b, i) = true) : pTk 53 (pPut 53 (d, a, b, i)) = true ∧ pPt 53 (pPut 53 (d, a, b, i)) = nrm 53 (d, a, b, i) := by
  have q0 : pHas 53 0 = false := by decide +kernel
  have q1 : pHas 53 1 = false := by decide +kernel
  have q2 : pHas 53 2 = false := by decide +kernel
  have q3 : pHas 53 3 = true := by decide +kernel
  unfold pGood at g
  simp only [q0, q1, q2, q3, Bool.not_true, Bool.not_false, Bool.false_or, Bool.true_or, Bool.and_true, Bool.true_and, Bool.and_eq_true] at g
  have g3 := g
  have g3 := (pImm_53 i).mp g3
  have r := pPut_53 d a b i (by omega)
  refine ⟨r.1, r.2.trans ?_⟩
  unfold nrm
  rw [q0, q1, q2, q3]
  rfl
theorem rt_54 (d a b i : Int) (g : pGood 54 (d, a, b, i) = true) : pTk 54 (pPut 54 (d, a, b, i)) = true ∧ pPt 54 (pPut 54 (d, a, b, i)) = nrm 54 (d, a, b, i) := by
  have q0 : pHas 54 0 = true := by decide +kernel
  have q1 : pHas 54 1 = false := by decide +kernel
  have q2 : pHas 54 2 = false := by decide +kernel
  have q3 : pHas 54 3 = true := by decide +kernel
  unfold pGood at g
  simp only [q0, q1, q2, q3, Bool.not_true, Bool.not_false, Bool.false_or, Bool.true_or, Bool.and_true, Bool.true_and, Bool.and_eq_true] at g
  obtain ⟨g0, g3⟩ := g
  have s0 : pSho 54 0 = false := by decide +kernel
  have g0 : 0 ≤ d ∧ d ≤ 31 ∧ (54 < 48 ∨ 54 = 74 ∨ ¬ d = 0 ∧ ¬ (54 = 56 ∧ d = 2)) := by unfold pReg at g0; rw [if_neg (by rw [s0]; decide)] at g0; exact of_decide_eq_true g0
  have g3 := (pImm_54 i).mp g3
  have r := pPut_54 d a b i (by omega) (by omega)
  refine ⟨r.1, r.2.trans ?_⟩
  unfold nrm
  rw [q0, q1, q2, q3]
  rfl
theorem rt_55 (d a b i : Int) (g : pGood 55 (d, a, b, i) = true) : pTk 55 (pPut 55 (d, a, b, i)) = true ∧ pPt 55 (pPut 55 (d, a, b, i)) = nrm 55 (d, a, b, i) := by
  have q0 : pHas 55 0 = false := by decide +kernel
  have q1 : pHas 55 1 = false := by decide +kernel
  have q2 : pHas 55 2 = false := by decide +kernel
  have q3 : pHas 55 3 = true := by decide +kernel
  unfold pGood at g
  simp only [q0, q1, q2, q3, Bool.not_true, Bool.not_false, Bool.false_or, Bool.true_or, Bool.and_true, Bool.true_and, Bool.and_eq_true] at g
  have g3 := g
  have g3 := (pImm_55 i).mp g3
  have r := pPut_55 d a b i (by omega)
  refine ⟨r.1, r.2.trans ?_⟩
  unfold nrm
  rw [q0, q1, q2, q3]
  rfl
theorem rt_56 (d a b i : Int) (g : pGood 56 (d, a, b, i) = true) : pTk 56 (pPut 56 (d, a, b, i)) = true ∧ pPt 56 (pPut 56 (d, a, b, i)) = nrm 56 (d, a, b, i) := by
  have q0 : pHas 56 0 = true := by decide +kernel
  have q1 : pHas 56 1 = false := by decide +kernel
  have q2 : pHas 56 2 = false := by decide +kernel
  have q3 : pHas 56 3 = true := by decide +kernel
  unfold pGood at g
  simp only [q0, q1, q2, q3, Bool.not_true, Bool.not_false, Bool.false_or, Bool.true_or, Bool.and_true, Bool.true_and, Bool.and_eq_true] at g
  obtain ⟨g0, g3⟩ := g
  have s0 : pSho 56 0 = false := by decide +kernel
  have g0 : 0 ≤ d ∧ d ≤ 31 ∧ (56 < 48 ∨ 56 = 74 ∨ ¬ d = 0 ∧ ¬ (56 = 56 ∧ d = 2)) := by unfold pReg at g0; rw [if_neg (by rw [s0]; decide)] at g0; exact of_decide_eq_true g0
  have g3 := (pImm_56 i).mp g3
  have r := pPut_56 d a b i (by omega) (by omega)
  refine ⟨r.1, r.2.trans ?_⟩
  unfold nrm
  rw [q0, q1, q2, q3]
  rfl
theorem rt_57 (d a b i : Int) (g : pGood 57 (d, a, b, i) = true) : pTk 57 (pPut 57 (d, a, b, i)) = true ∧ pPt 57 (pPut 57 (d, a, b, i)) = nrm 57 (d, a, b, i) := by
  have q0 : pHas 57 0 = true := by decide +kernel
  have q1 : pHas 57 1 = false := by decide +kernel
  have q2 : pHas 57 2 = false := by decide +kernel
  have q3 : pHas 57 3 = true := by decide +kernel
  unfold pGood at g
  simp only [q0, q1, q2, q3, Bool.not_true, Bool.not_false, Bool.false_or, Bool.true_or, Bool.and_true, Bool.true_and, Bool.and_eq_true] at g
  obtain ⟨g0, g3⟩ := g
  have s0 : pSho 57 0 = true := by decide +kernel
  have g0 : 8 ≤ d ∧ d < 16 := by unfold pReg at g0; rw [if_pos s0] at g0; exact of_decide_eq_true g0
  have g3 := (pImm_57 i).mp g3
  have r := pPut_57 d a b i (by omega) (by omega)
  refine ⟨r.1, r.2.trans ?_⟩
  unfold nrm
  rw [q0, q1, q2, q3]
  rfl
theorem rt_58 (d a b i : Int) (g : pGood 58 (d, a, b, i) = true) : pTk 58 (pPut 58 (d, a, b, i)) = true ∧ pPt 58 (pPut 58 (d, a, b, i)) = nrm 58 (d, a, b, i) := by
  have q0 : pHas 58 0 = true := by decide +kernel
  have q1 : pHas 58 1 = false := by decide +kernel
  have q2 : pHas 58 2 = false := by decide +kernel
  have q3 : pHas 58 3 = true := by decide +kernel
  unfold pGood at g
  simp only [q0, q1, q2, q3, Bool.not_true, Bool.not_false, Bool.false_or, Bool.true_or, Bool.and_true, Bool.true_and, Bool.and_eq_true] at g
  obtain ⟨g0, g3⟩ := g
  have s0 : pSho 58 0 = true := by decide +kernel
  have g0 : 8 ≤ d ∧ d < 16 := by unfold pReg at g0; rw [if_pos s0] at g0; exact of_decide_eq_true g0
  have g3 := (pImm_58 i).mp g3
  have r := pPut_58 d a b i (by omega) (by omega)
  refine ⟨r.1, r.2.trans ?_⟩
  unfold nrm
  rw [q0, q1, q2, q3]
  rfl
theorem rt_59 (d a b i : Int) (g : pGood 59 (d, a, b, i) = true) : pTk 59 (pPut 59 (d, a, b, i)) = true ∧ pPt 59 (pPut 59 (d, a, b, i)) = nrm 59 (d, a, b, i) := by
  have q0 : pHas 59 0 = true := by decide +kernel
  have q1 : pHas 59 1 = false := by decide +kernel
  have q2 : pHas 59 2 = false := by decide +kernel
  have q3 : pHas 59 3 = true := by decide +kernel
  unfold pGood at g
  simp only [q0, q1, q2, q3, Bool.not_true, Bool.not_false, Bool.false_or, Bool.true_or, Bool.and_true, Bool.true_and, Bool.and_eq_true] at g
  obtain ⟨g0, g3⟩ := g
  have s0 : pSho 59 0 = true := by decide +kernel
  have g0 : 8 ≤ d ∧ d < 16 := by unfold pReg at g0; rw [if_pos s0] at g0; exact of_decide_eq_true g0
  have g3 := (pImm_59 i).mp g3
  have r := pPut_59 d a b i (by omega) (by omega)
  refine ⟨r.1, r.2.trans ?_⟩
  unfold nrm
  rw [q0, q1, q2, q3]
  rfl
theorem rt_60 (d a b i : Int) (g : pGood 60 (d, a, b, i) = true) : pTk 60 (pPut 60 (d, a, b, i)) = true ∧ pPt 60 (pPut 60 (d, a, b, i)) = nrm 60 (d, a, b, i) := by
  have q0 : pHas 60 0 = true := by decide +kernel
  have q1 : pHas 60 1 = false := by decide +kernel
  have q2 : pHas 60 2 = true := by decide +kernel
  have q3 : pHas 60 3 = false := by decide +kernel
  unfold pGood at g
  simp only [q0, q1, q2, q3, Bool.not_true, Bool.not_false, Bool.false_or, Bool.true_or, Bool.and_true, Bool.true_and, Bool.and_eq_true] at g
  obtain ⟨g0, g2⟩ := g
  have s0 : pSho 60 0 = true := by decide +kernel
  have g0 : 8 ≤ d ∧ d < 16 := by unfold pReg at g0; rw [if_pos s0] at g0; exact of_decide_eq_true g0
  have s2 : pSho 60 2 = true := by decide +kernel
  have g2 : 8 ≤ b ∧ b < 16 := by unfold pReg at g2; rw [if_pos s2] at g2; exact of_decide_eq_true g2
  have r := pPut_60 d a b i (by omega) (by omega)
  refine ⟨r.1, r.2.trans ?_⟩
  unfold nrm
  rw [q0, q1, q2, q3]
  rfl
theorem rt_61 (d a b i : Int) (g : pGood 61 (d, a, b, i) = true) : pTk 61 (pPut 61 (d, a, b, i)) = true ∧ pPt 61 (pPut 61 (d, a, b, i)) = nrm 61 (d, a, b, i) := by
  have q0 : pHas 61 0 = true := by decide +kernel
  have q1 : pHas 61 1 = false := by decide +kernel
  have q2 : pHas 61 2 = true := by decide +kernel
  have q3 : pHas 61 3 = false := by decide +kernel
  unfold pGood at g
  simp only [q0, q1, q2, q3, Bool.not_true, Bool.not_false, Bool.false_or, Bool.true_or, Bool.and_true, Bool.true_and, Bool.and_eq_true] at g
  obtain ⟨g0, g2⟩ := g
  have s0 : pSho 61 0 = true := by decide +kernel
  have g0 : 8 ≤ d ∧ d < 16 := by unfold pReg at g0; rw [if_pos s0] at g0; exact of_decide_eq_true g0
  have s2 : pSho 61 2 = true := by decide +kernel
  have g2 : 8 ≤ b ∧ b < 16 := by unfold pReg at g2; rw [if_pos s2] at g2; exact of_decide_eq_true g2
  have r := pPut_61 d a b i (by omega) (by omega)
  refine ⟨r.1, r.2.trans ?_⟩
  unfold nrm
  rw [q0, q1, q2, q3]
  rfl
theorem rt_62 (d a b i : Int) (g : pGood 62 (d, a, b, i) = true) : pTk 62 (pPut 62 (d, a, b, i)) = true ∧ pPt 62 (pPut 62 (d, a, b, i)) = nrm 62 (d, a, b, i) := by
  have q0 : pHas 62 0 = true := by decide +kernel
  have q1 : pHas 62 1 = false := by decide +kernel
  have q2 : pHas 62 2 = true := by decide +kernel
  have q3 : pHas 62 3 = false := by decide +kernel
  unfold pGood at g
  simp only [q0, q1, q2, q3, Bool.not_true, Bool.not_false, Bool.false_or, Bool.true_or, Bool.and_true, Bool.true_and, Bool.and_eq_true] at g
  obtain ⟨g0, g2⟩ := g
  have s0 : pSho 62 0 = true := by decide +kernel
  have g0 : 8 ≤ d ∧ d < 16 := by unfold pReg at g0; rw [if_pos s0] at g0; exact of_decide_eq_true g0
  have s2 : pSho 62 2 = true := by decide +kernel
  have g2 : 8 ≤ b ∧ b < 16 := by unfold pReg at g2; rw [if_pos s2] at g2; exact of_decide_eq_true g2
  have r := pPut_62 d a b i (by omega) (by omega)
  refine ⟨r.1, r.2.trans ?_⟩
  unfold nrm
  rw [q0, q1, q2, q3]
  rfl
theorem rt_63 (d a b i : Int) (g : pGood 63 (d, a, b, i) = true) : pTk 63 (pPut 63 (d, a, b, i)) = true ∧ pPt 63 (pPut 63 (d, a, b, i)) = nrm 63 (d, a, b, i) := by
  have q0 : pHas 63 0 = true := by decide +kernel
  have q1 : pHas 63 1 = false := by decide +kernel
  have q2 : pHas 63 2 = true := by decide +kernel
  have q3 : pHas 63 3 = false := by decide +kernel
  unfold pGood at g
  simp only [q0, q1, q2, q3, Bool.not_true, Bool.not_false, Bool.false_or, Bool.true_or, Bool.and_true, Bool.true_and, Bool.and_eq_true] at g
  obtain ⟨g0, g2⟩ := g
  have s0 : pSho 63 0 = true := by decide +kernel
  have g0 : 8 ≤ d ∧ d < 16 := by unfold pReg at g0; rw [if_pos s0] at g0; exact of_decide_eq_true g0
  have s2 : pSho 63 2 = true := by decide +kernel
  have g2 : 8 ≤ b ∧ b < 16 := by unfold pReg at g2; rw [if_pos s2] at g2; exact of_decide_eq_true g2
  have r := pPut_63 d a b i (by omega) (by omega)
  refine ⟨r.1, r.2.trans ?_⟩
  unfold nrm
  rw [q0, q1, q2, q3]
  rfl
theorem rt_64 (d a b i : Int) (g : pGood 64 (d, a, b, i) = true) : pTk 64 (pPut 64 (d, a, b, i)) = true ∧ pPt 64 (pPut 64 (d, a, b, i)) = nrm 64 (d, a, b, i) := by
  have q0 : pHas 64 0 = false := by decide +kernel
  have q1 : pHas 64 1 = false := by decide +kernel
  have q2 : pHas 64 2 = false := by decide +kernel
  have q3 : pHas 64 3 = true := by decide +kernel
  unfold pGood at g
  simp only [q0, q1, q2, q3, Bool.not_true, Bool.not_false, Bool.false_or, Bool.true_or, Bool.and_true, Bool.true_and, Bool.and_eq_true] at g
  have g3 := g
  have g3 := (pImm_64 i).mp g3
  have r := pPut_64 d a b i (by omega)
  refine ⟨r.1, r.2.trans ?_⟩
  unfold nrm
  rw [q0, q1, q2, q3]
  rfl
theorem rt_65 (d a b i : Int) (g : pGood 65 (d, a, b, i) = true) : pTk 65 (pPut 65 (d, a, b, i)) = true ∧ pPt 65 (pPut 65 (d, a, b, i)) = nrm 65 (d, a, b, i) := by
  have q0 : pHas 65 0 = false := by decide +kernel
  have q1 : pHas 65 1 = true := by decide +kernel
  have q2 : pHas 65 2 = false := by decide +kernel
  have q3 : pHas 65 3 = true := by decide +kernel
  unfold pGood at g
  simp only [q0, q1, q2, q3, Bool.not_true, Bool.not_false, Bool.false_or, Bool.true_or, Bool.and_true, Bool.true_and, Bool.and_eq_true] at g
  obtain ⟨g1, g3⟩ := g
  have s1 : pSho 65 1 = true := by decide +kernel
  have g1 : 8 ≤ a ∧ a < 16 := by unfold pReg at g1; rw [if_pos s1] at g1; exact of_decide_eq_true g1
  have g3 := (pImm_65 i).mp g3
  have r := pPut_65 d a b i (by omega) (by omega)
  refine ⟨r.1, r.2.trans ?_⟩
  unfold nrm
  rw [q0, q1, q2, q3]
  rfl
theorem rt_66 (d a b i : Int) (g : pGood 66 (d, a, b, i) = true) : pTk 66 (pPut 66 (d, a, b, i)) = true ∧ pPt 66 (pPut 66 (d, a, b, i)) = nrm 66 (d, a, b, i) := by
  have q0 : pHas 66 0 = false := by decide +kernel
  have q1 : pHas 66 1 = true := by decide +kernel
  have q2 : pHas 66 2 = false := by decide +kernel
  have q3 : pHas 66 3 = true := by decide +kernel
  unfold pGood at g
  simp only [q0, q1, q2, q3, Bool.not_true, Bool.not_false, Bool.false_or, Bool.true_or, Bool.and_true, Bool.true_and, Bool.and_eq_true] at g
  obtain ⟨g1, g3⟩ := g
  have s1 : pSho 66 1 = true := by decide +kernel
  have g1 : 8 ≤ a ∧ a < 16 := by unfold pReg at g1; rw [if_pos s1] at g1; exact of_decide_eq_true g1
  have g3 := (pImm_66 i).mp g3
  have r := pPut_66 d a b i (by omega) (by omega)
  refine ⟨r.1, r.2.trans ?_⟩
  unfold nrm
  rw [q0, q1, q2, q3]
  rfl
theorem rt_67 (d a b i : Int) (g : pGood 67 (d, a, b, i) = true) : pTk 67 (pPut 67 (d, a, b, i)) = true ∧ pPt 67 (pPut 67 (d, a, b, i)) = nrm 67 (d, a, b, i) := by
  have q0 : pHas 67 0 = true := by decide +kernel
  have q1 : pHas 67 1 = false := by decide +kernel
  have q2 : pHas 67 2 = false := by decide +kernel
  have q3 : pHas 67 3 = true := by decide +kernel
  unfold pGood at g
  simp only [q0, q1, q2, q3, Bool.not_true, Bool.not_false, Bool.false_or, Bool.true_or, Bool.and_true, Bool.true_and, Bool.and_eq_true] at g
  obtain ⟨g0, g3⟩ := g
  have s0 : pSho 67 0 = false := by decide +kernel
  have g0 : 0 ≤ d ∧ d ≤ 31 ∧ (67 < 48 ∨ 67 = 74 ∨ ¬ d = 0 ∧ ¬ (67 = 56 ∧ d = 2)) := by unfold pReg at g0; rw [if_neg (by rw [s0]; decide)] at g0; exact of_decide_eq_true g0
  have g3 := (pImm_67 i).mp g3
  have r := pPut_67 d a b i (by omega) (by omega)
  refine ⟨r.1, r.2.trans ?_⟩
  unfold nrm
  rw [q0, q1, q2, q3]
  rfl
theorem rt_68 (d a b i : Int) (g : pGood 68 (d, a, b, i) = true) : pTk 68 (pPut 68 (d, a, b, i)) = true ∧ pPt 68 (pPut 68 (d, a, b, i)) = nrm 68 (d, a, b, i) := by
  have q0 : pHas 68 0 = true := by decide +kernel
  have q1 : pHas 68 1 = false := by decide +kernel
  have q2 : pHas 68 2 = false := by decide +kernel
  have q3 : pHas 68 3 = true := by decide +kernel
  unfold pGood at g
  simp only [q0, q1, q2, q3, Bool.not_true, Bool.not_false, Bool.false_or, Bool.true_or, Bool.and_true, Bool.true_and, Bool.and_eq_true] at g
  obtain ⟨g0, g3⟩ := g
  have s0 : pSho 68 0 = false := by decide +kernel
  have g0 : 0 ≤ d ∧ d ≤ 31 ∧ (68 < 48 ∨ 68 = 74 ∨ ¬ d = 0 ∧ ¬ (68 = 56 ∧ d = 2)) := by unfold pReg at g0; rw [if_neg (by rw [s0]; decide)] at g0; exact of_decide_eq_true g0
  have g3 := (pImm_68 i).mp g3
  have r := pPut_68 d a b i (by omega) (by omega)
  refine ⟨r.1, r.2.trans ?_⟩
  unfold nrm
  rw [q0, q1, q2, q3]
  rfl
theorem rt_69 (d a b i : Int) (g : pGood 69 (d, a, b, i) = true) : pTk 69 (pPut 69 (d, a, b, i)) = true ∧ pPt 69 (pPut 69 (d, a, b, i)) = nrm 69 (d, a, b, i) := by
  have q0 : pHas 69 0 = false := by decide +kernel
  have q1 : pHas 69 1 = true := by decide +kernel
  have q2 : pHas 69 2 = false := by decide +kernel
  have q3 : pHas 69 3 = false := by decide +kernel
  unfold pGood at g
  simp only [q0, q1, q2, q3, Bool.not_true, Bool.not_false, Bool.false_or, Bool.true_or, Bool.and_true, Bool.true_and, Bool.and_eq_true] at g
  have g1 := g
  have s1 : pSho 69 1 = false := by decide +kernel
  have g1 : 0 ≤ a ∧ a ≤ 31 ∧ (69 < 48 ∨ 69 = 74 ∨ ¬ a = 0 ∧ ¬ (69 = 56 ∧ a = 2)) := by unfold pReg at g1; rw [if_neg (by rw [s1]; decide)] at g1; exact of_decide_eq_true g1
  have r := pPut_69 d a b i (by omega)
  refine ⟨r.1, r.2.trans ?_⟩
  unfold nrm
  rw [q0, q1, q2, q3]
  rfl
theorem rt_70 (d a b i : Int) (g : pGood 70 (d, a, b, i) = true) : pTk 70 (pPut 70 (d, a, b, i)) = true ∧ pPt 70 (pPut 70 (d, a, b, i)) = nrm 70 (d, a, b, i) := by
  have q0 : pHas 70 0 = true := by decide +kernel
  have q1 : pHas 70 1 = false := by decide +kernel
  have q2 : pHas 70 2 = true := by decide +kernel
  have q3 : pHas 70 3 = false := by decide +kernel
  unfold pGood at g
  simp only [q0, q1, q2, q3, Bool.not_true, Bool.not_false, Bool.false_or, Bool.true_or, Bool.and_true, Bool.true_and, Bool.and_eq_true] at g
  obtain ⟨g0, g2⟩ := g
  have s0 : pSho 70 0 = false := by decide +kernel
  have g0 : 0 ≤ d ∧ d ≤ 31 ∧ (70 < 48 ∨ 70 = 74 ∨ ¬ d = 0 ∧ ¬ (70 = 56 ∧ d = 2)) := by unfold pReg at g0; rw [if_neg (by rw [s0]; decide)] at g0; exact of_decide_eq_true g0
  have s2 : pSho 70 2 = false := by decide +kernel
  have g2 : 0 ≤ b ∧ b ≤ 31 ∧ (70 < 48 ∨ 70 = 74 ∨ ¬ b = 0 ∧ ¬ (70 = 56 ∧ b = 2)) := by unfold pReg at g2; rw [if_neg (by rw [s2]; decide)] at g2; exact of_decide_eq_true g2
  have r := pPut_70 d a b i (by omega) (by omega)
  refine ⟨r.1, r.2.trans ?_⟩
  unfold nrm
  rw [q0, q1, q2, q3]
  rfl
theorem rt_71 (d a b i : Int) (g : pGood 71 (d, a, b, i) = true) : pTk 71 (pPut 71 (d, a, b, i)) = true ∧ pPt 71 (pPut 71 (d, a, b, i)) = nrm 71 (d, a, b, i) := by
  have q0 : pHas 71 0 = false := by decide +kernel
  have q1 : pHas 71 1 = false := by decide +kernel
  have q2 : pHas 71 2 = false := by decide +kernel
  have q3 : pHas 71 3 = false := by decide +kernel
  unfold pGood at g
  simp only [q0, q1, q2, q3, Bool.not_true, Bool.not_false, Bool.false_or, Bool.true_or, Bool.and_true, Bool.true_and, Bool.and_eq_true] at g
  have r := pPut_71 d a b i 
  refine ⟨r.1, r.2.trans ?_⟩
  unfold nrm
  rw [q0, q1, q2, q3]
  rfl
theorem rt_72 (d a b i : Int) (g : pGood 72 (d, a, b, i) = true) : pTk 72 (pPut 72 (d, a, b, i)) = true ∧ pPt 72 (pPut 72 (d, a, b, i)) = nrm 72 (d, a, b, i) := by
  have q0 : pHas 72 0 = false := by decide +kernel
  have q1 : pHas 72 1 = true := by decide +kernel
  have q2 : pHas 72 2 = false := by decide +kernel
  have q3 : pHas 72 3 = false := by decide +kernel
  unfold pGood at g
  simp only [q0, q1, q2, q3, Bool.not_true, Bool.not_false, Bool.false_or, Bool.true_or, Bool.and_true, Bool.true_and, Bool.and_eq_true] at g
  have g1 := g
  have s1 : pSho 72 1 = false := by decide +kernel
  have g1 : 0 ≤ a ∧ a ≤ 31 ∧ (72 < 48 ∨ 72 = 74 ∨ ¬ a = 0 ∧ ¬ (72 = 56 ∧ a = 2)) := by unfold pReg at g1; rw [if_neg (by rw [s1]; decide)] at g1; exact of_decide_eq_true g1
  have r := pPut_72 d a b i (by omega)
  refine ⟨r.1, r.2.trans ?_⟩
  unfold nrm
  rw [q0, q1, q2, q3]
  rfl
theorem rt_73 (d a b i : Int) (g : pGood 73 (d, a, b, i) = true) : pTk 73 (pPut 73 (d, a, b, i)) = true ∧ pPt 73 (pPut 73 (d, a, b, i)) = nrm 73 (d, a, b, i) := by
  have q0 : pHas 73 0 = true := by decide +kernel
  have q1 : pHas 73 1 = false := by decide +kernel
  have q2 : pHas 73 2 = true := by decide +kernel
  have q3 : pHas 73 3 = false := by decide +kernel
  unfold pGood at g
  simp only [q0, q1, q2, q3, Bool.not_true, Bool.not_false, Bool.false_or, Bool.true_or, Bool.and_true, Bool.true_and, Bool.and_eq_true] at g
  obtain ⟨g0, g2⟩ := g
  have s0 : pSho 73 0 = false := by decide +kernel
  have g0 : 0 ≤ d ∧ d ≤ 31 ∧ (73 < 48 ∨ 73 = 74 ∨ ¬ d = 0 ∧ ¬ (73 = 56 ∧ d = 2)) := by unfold pReg at g0; rw [if_neg (by rw [s0]; decide)] at g0; exact of_decide_eq_true g0
  have s2 : pSho 73 2 = false := by decide +kernel
  have g2 : 0 ≤ b ∧ b ≤ 31 ∧ (73 < 48 ∨ 73 = 74 ∨ ¬ b = 0 ∧ ¬ (73 = 56 ∧ b = 2)) := by unfold pReg at g2; rw [if_neg (by rw [s2]; decide)] at g2; exact of_decide_eq_true g2
  have r := pPut_73 d a b i (by omega) (by omega)
  refine ⟨r.1, r.2.trans ?_⟩
  unfold nrm
  rw [q0, q1, q2, q3]
  rfl
theorem rt_74 (d a b i : Int) (g : pGood 74 (d, a, b, i) = true) : pTk 74 (pPut 74 (d, a, b, i)) = true ∧ pPt 74 (pPut 74 (d, a, b, i)) = nrm 74 (d, a, b, i) := by
  have q0 : pHas 74 0 = false := by decide +kernel
  have q1 : pHas 74 1 = false := by decide +kernel
  have q2 : pHas 74 2 = true := by decide +kernel
  have q3 : pHas 74 3 = true := by decide +kernel
  unfold pGood at g
  simp only [q0, q1, q2, q3, Bool.not_true, Bool.not_false, Bool.false_or, Bool.true_or, Bool.and_true, Bool.true_and, Bool.and_eq_true] at g
  obtain ⟨g2, g3⟩ := g
  have s2 : pSho 74 2 = false := by decide +kernel
  have g2 : 0 ≤ b ∧ b ≤ 31 ∧ (74 < 48 ∨ 74 = 74 ∨ ¬ b = 0 ∧ ¬ (74 = 56 ∧ b = 2)) := by unfold pReg at g2; rw [if_neg (by rw [s2]; decide)] at g2; exact of_decide_eq_true g2
  have g3 := (pImm_74 i).mp g3
  have r := pPut_74 d a b i (by omega) (by omega)
  refine ⟨r.1, r.2.trans ?_⟩
  unfold nrm
  rw [q0, q1, q2, q3]
  rfl
theorem rt_k (d a b i : Int) : ∀ k : Nat, k < 75 → pGood k (d, a, b, i) = true → pTk k (pPut k (d, a, b, i)) = true ∧ pPt k (pPut k (d, a, b, i)) = nrm k (d, a, b, i)
  | 0, _, g => rt_0 d a b i g
  | 1, _, g => rt_1 d a b i g
  | 2, _, g => rt_2 d a b i g
  | 3, _, g => rt_3 d a b i g
  | 4, _, g => rt_4 d a b i g
  | 5, _, g => rt_5 d a b i g
  | 6, _, g => rt_6 d a b i g
  | 7, _, g => rt_7 d a b i g
  | 8, _, g => rt_8 d a b i g
  | 9, _, g => rt_9 d a b i g
  | 10, _, g => rt_10 d a b i g
  | 11, _, g => rt_11 d a b i g
  | 12, _, g => rt_12 d a b i g
  | 13, _, g => rt_13 d a b i g
  | 14, _, g => rt_14 d a b i g
  | 15, _, g => rt_15 d a b i g
  | 16, _, g => rt_16 d a b i g
  | 17, _, g => rt_17 d a b i g
  | 18, _, g => rt_18 d a b i g
  | 19, _, g => rt_19 d a b i g
  | 20, _, g => rt_20 d a b i g
  | 21, _, g => rt_21 d a b i g
  | 22, _, g => rt_22 d a b i g
  | 23, _, g => rt_23 d a b i g
  | 24, _, g => rt_24 d a b i g
  | 25, _, g => rt_25 d a b i g
  | 26, _, g => rt_26 d a b i g
  | 27, _, g => rt_27 d a b i g
  | 28, _, g => rt_28 d a b i g
  | 29, _, g => rt_29 d a b i g
  | 30, _, g => rt_30 d a b i g
  | 31, _, g => rt_31 d a b i g
  | 32, _, g => rt_32 d a b i g
  | 33, _, g => rt_33 d a b i g
  | 34, _, g => rt_34 d a b i g
  | 35, _, g => rt_35 d a b i g
  | 36, _, g => rt_36 d a b i g
  | 37, _, g => rt_37 d a b i g
  | 38, _, g => rt_38 d a b i g
  | 39, _, g => rt_39 d a b i g
  | 40, _, g => rt_40 d a b i g
  | 41, _, g => rt_41 d a b i g
  | 42, _, g => rt_42 d a b i g
  | 43, _, g => rt_43 d a b i g
  | 44, _, g => rt_44 d a b i g
  | 45, _, g => rt_45 d a b i g
  | 46, _, g => rt_46 d a b i g
  | 47, _, g => rt_47 d a b i g
  | 48, _, g => rt_48 d a b i g
  | 49, _, g => rt_49 d a b i g
  | 50, _, g => rt_50 d a b i g
  | 51, _, g => rt_51 d a b i g
  | 52, _, g => rt_52 d a b i g
  | 53, _, g => rt_53 d a b i g
  | 54, _, g => rt_54 d a b i g
  | 55, _, g => rt_55 d a b i g
  | 56, _, g => rt_56 d a b i g
  | 57, _, g => rt_57 d a b i g
  | 58, _, g => rt_58 d a b i g
  | 59, _, g => rt_59 d a b i g
  | 60, _, g => rt_60 d a b i g
  | 61, _, g => rt_61 d a b i g
  | 62, _, g => rt_62 d a b i g
  | 63, _, g => rt_63 d a b i g
  | 64, _, g => rt_64 d a b i g
  | 65, _, g => rt_65 d a b i g
  | 66, _, g => rt_66 d a b i g
  | 67, _, g => rt_67 d a b i g
  | 68, _, g => rt_68 d a b i g
  | 69, _, g => rt_69 d a b i g
  | 70, _, g => rt_70 d a b i g
  | 71, _, g => rt_71 d a b i g
  | 72, _, g => rt_72 d a b i g
  | 73, _, g => rt_73 d a b i g
  | 74, _, g => rt_74 d a b i g
  | n + 75, h, _ => absurd h (by omega)
/-- of short kinds only one fits -/
theorem pTk_oneS {w : Int} (h0 : 0 ≤ w) (h1 : w < 65536) {k j : Nat} (hk : k < 75) (hk' : 48 ≤ k) (hj : j < 75) (hj' : 48 ≤ j) (h : pTk k w = true) (h' : pTk j w = true) : k = j := by
  have e1 := clsS_k w h0 h1 k hk hk' h
  have e2 := clsS_k w h0 h1 j hj hj' h'
  omega
/-- what the component's sources make of a short kind's parts -/
def cFr (x : Int) (p : jP4) : Int := if x < 0 then p4g p (-1 - x).toNat else x
theorem cSd_str : ∀ k : Nat, k < 75 → 48 ≤ k → ∀ p : jP4, nrm k p = p → (cFr (cSd k).2.1 p, cFr (cSd k).2.2.1 p, cFr (cSd k).2.2.2 p, p.2.2.2) = pStr k p
  | 48, _, _, p, h => by
    have q0 : pHas 48 0 = true := by decide +kernel
    have q1 : pHas 48 1 = false := by decide +kernel
    have q2 : pHas 48 2 = false := by decide +kernel
    have q3 : pHas 48 3 = true := by decide +kernel
    obtain ⟨d, a, b, i⟩ := p
    unfold nrm at h
    rw [q0, q1, q2, q3] at h
    simp only [Bool.false_eq_true, if_false, if_true, Prod.mk.injEq] at h
    have e : cSd 48 = (18, -1, 2, 0) := rfl
    rw [e]
    simp [cFr, pStr, p4g]
    try omega
  | 49, _, _, p, h => by
    have q0 : pHas 49 0 = true := by decide +kernel
    have q1 : pHas 49 1 = true := by decide +kernel
    have q2 : pHas 49 2 = false := by decide +kernel
    have q3 : pHas 49 3 = true := by decide +kernel
    obtain ⟨d, a, b, i⟩ := p
    unfold nrm at h
    rw [q0, q1, q2, q3] at h
    simp only [Bool.false_eq_true, if_false, if_true, Prod.mk.injEq] at h
    have e : cSd 49 = (12, -1, -2, 0) := rfl
    rw [e]
    simp [cFr, pStr, p4g]
    try omega
  | 50, _, _, p, h => by
    have q0 : pHas 50 0 = false := by decide +kernel
    have q1 : pHas 50 1 = true := by decide +kernel
    have q2 : pHas 50 2 = true := by decide +kernel
    have q3 : pHas 50 3 = true := by decide +kernel
    obtain ⟨d, a, b, i⟩ := p
    unfold nrm at h
    rw [q0, q1, q2, q3] at h
    simp only [Bool.false_eq_true, if_false, if_true, Prod.mk.injEq] at h
    have e : cSd 50 = (17, 0, -2, -3) := rfl
    rw [e]
    simp [cFr, pStr, p4g]
    try omega
  | 51, _, _, p, h => by
    have q0 : pHas 51 0 = false := by decide +kernel
    have q1 : pHas 51 1 = false := by decide +kernel
    have q2 : pHas 51 2 = false := by decide +kernel
    have q3 : pHas 51 3 = false := by decide +kernel
    obtain ⟨d, a, b, i⟩ := p
    unfold nrm at h
    rw [q0, q1, q2, q3] at h
    simp only [Bool.false_eq_true, if_false, if_true, Prod.mk.injEq] at h
    have e : cSd 51 = (18, 0, 0, 0) := rfl
    rw [e]
    simp [cFr, pStr, p4g]
    try omega
  | 52, _, _, p, h => by
    have q0 : pHas 52 0 = true := by decide +kernel
    have q1 : pHas 52 1 = false := by decide +kernel
    have q2 : pHas 52 2 = false := by decide +kernel
    have q3 : pHas 52 3 = true := by decide +kernel
    obtain ⟨d, a, b, i⟩ := p
    unfold nrm at h
    rw [q0, q1, q2, q3] at h
    simp only [Bool.false_eq_true, if_false, if_true, Prod.mk.injEq] at h
    have e : cSd 52 = (18, -1, -1, 0) := rfl
    rw [e]
    simp [cFr, pStr, p4g]
    try omega
  | 53, _, _, p, h => by
    have q0 : pHas 53 0 = false := by decide +kernel
    have q1 : pHas 53 1 = false := by decide +kernel
    have q2 : pHas 53 2 = false := by decide +kernel
    have q3 : pHas 53 3 = true := by decide +kernel
    obtain ⟨d, a, b, i⟩ := p
    unfold nrm at h
    rw [q0, q1, q2, q3] at h
    simp only [Bool.false_eq_true, if_false, if_true, Prod.mk.injEq] at h
    have e : cSd 53 = (2, 1, 0, 0) := rfl
    rw [e]
    simp [cFr, pStr, p4g]
    try omega
  | 54, _, _, p, h => by
    have q0 : pHas 54 0 = true := by decide +kernel
    have q1 : pHas 54 1 = false := by decide +kernel
    have q2 : pHas 54 2 = false := by decide +kernel
    have q3 : pHas 54 3 = true := by decide +kernel
    obtain ⟨d, a, b, i⟩ := p
    unfold nrm at h
    rw [q0, q1, q2, q3] at h
    simp only [Bool.false_eq_true, if_false, if_true, Prod.mk.injEq] at h
    have e : cSd 54 = (18, -1, 0, 0) := rfl
    rw [e]
    simp [cFr, pStr, p4g]
    try omega
  | 55, _, _, p, h => by
    have q0 : pHas 55 0 = false := by decide +kernel
    have q1 : pHas 55 1 = false := by decide +kernel
    have q2 : pHas 55 2 = false := by decide +kernel
    have q3 : pHas 55 3 = true := by decide +kernel
    obtain ⟨d, a, b, i⟩ := p
    unfold nrm at h
    rw [q0, q1, q2, q3] at h
    simp only [Bool.false_eq_true, if_false, if_true, Prod.mk.injEq] at h
    have e : cSd 55 = (18, 2, 2, 0) := rfl
    rw [e]
    simp [cFr, pStr, p4g]
    try omega
  | 56, _, _, p, h => by
    have q0 : pHas 56 0 = true := by decide +kernel
    have q1 : pHas 56 1 = false := by decide +kernel
    have q2 : pHas 56 2 = false := by decide +kernel
    have q3 : pHas 56 3 = true := by decide +kernel
    obtain ⟨d, a, b, i⟩ := p
    unfold nrm at h
    rw [q0, q1, q2, q3] at h
    simp only [Bool.false_eq_true, if_false, if_true, Prod.mk.injEq] at h
    have e : cSd 56 = (0, -1, 0, 0) := rfl
    rw [e]
    simp [cFr, pStr, p4g]
    try omega
  | 57, _, _, p, h => by
    have q0 : pHas 57 0 = true := by decide +kernel
    have q1 : pHas 57 1 = false := by decide +kernel
    have q2 : pHas 57 2 = false := by decide +kernel
    have q3 : pHas 57 3 = true := by decide +kernel
    obtain ⟨d, a, b, i⟩ := p
    unfold nrm at h
    rw [q0, q1, q2, q3] at h
    simp only [Bool.false_eq_true, if_false, if_true, Prod.mk.injEq] at h
    have e : cSd 57 = (25, -1, -1, 0) := rfl
    rw [e]
    simp [cFr, pStr, p4g]
    try omega
  | 58, _, _, p, h => by
    have q0 : pHas 58 0 = true := by decide +kernel
    have q1 : pHas 58 1 = false := by decide +kernel
    have q2 : pHas 58 2 = false := by decide +kernel
    have q3 : pHas 58 3 = true := by decide +kernel
    obtain ⟨d, a, b, i⟩ := p
    unfold nrm at h
    rw [q0, q1, q2, q3] at h
    simp only [Bool.false_eq_true, if_false, if_true, Prod.mk.injEq] at h
    have e : cSd 58 = (26, -1, -1, 0) := rfl
    rw [e]
    simp [cFr, pStr, p4g]
    try omega
  | 59, _, _, p, h => by
    have q0 : pHas 59 0 = true := by decide +kernel
    have q1 : pHas 59 1 = false := by decide +kernel
    have q2 : pHas 59 2 = false := by decide +kernel
    have q3 : pHas 59 3 = true := by decide +kernel
    obtain ⟨d, a, b, i⟩ := p
    unfold nrm at h
    rw [q0, q1, q2, q3] at h
    simp only [Bool.false_eq_true, if_false, if_true, Prod.mk.injEq] at h
    have e : cSd 59 = (23, -1, -1, 0) := rfl
    rw [e]
    simp [cFr, pStr, p4g]
    try omega
  | 60, _, _, p, h => by
    have q0 : pHas 60 0 = true := by decide +kernel
    have q1 : pHas 60 1 = false := by decide +kernel
    have q2 : pHas 60 2 = true := by decide +kernel
    have q3 : pHas 60 3 = false := by decide +kernel
    obtain ⟨d, a, b, i⟩ := p
    unfold nrm at h
    rw [q0, q1, q2, q3] at h
    simp only [Bool.false_eq_true, if_false, if_true, Prod.mk.injEq] at h
    have e : cSd 60 = (28, -1, -1, -3) := rfl
    rw [e]
    simp [cFr, pStr, p4g]
    try omega
  | 61, _, _, p, h => by
    have q0 : pHas 61 0 = true := by decide +kernel
    have q1 : pHas 61 1 = false := by decide +kernel
    have q2 : pHas 61 2 = true := by decide +kernel
    have q3 : pHas 61 3 = false := by decide +kernel
    obtain ⟨d, a, b, i⟩ := p
    unfold nrm at h
    rw [q0, q1, q2, q3] at h
    simp only [Bool.false_eq_true, if_false, if_true, Prod.mk.injEq] at h
    have e : cSd 61 = (32, -1, -1, -3) := rfl
    rw [e]
    simp [cFr, pStr, p4g]
    try omega
  | 62, _, _, p, h => by
    have q0 : pHas 62 0 = true := by decide +kernel
    have q1 : pHas 62 1 = false := by decide +kernel
    have q2 : pHas 62 2 = true := by decide +kernel
    have q3 : pHas 62 3 = false := by decide +kernel
    obtain ⟨d, a, b, i⟩ := p
    unfold nrm at h
    rw [q0, q1, q2, q3] at h
    simp only [Bool.false_eq_true, if_false, if_true, Prod.mk.injEq] at h
    have e : cSd 62 = (35, -1, -1, -3) := rfl
    rw [e]
    simp [cFr, pStr, p4g]
    try omega
  | 63, _, _, p, h => by
    have q0 : pHas 63 0 = true := by decide +kernel
    have q1 : pHas 63 1 = false := by decide +kernel
    have q2 : pHas 63 2 = true := by decide +kernel
    have q3 : pHas 63 3 = false := by decide +kernel
    obtain ⟨d, a, b, i⟩ := p
    unfold nrm at h
    rw [q0, q1, q2, q3] at h
    simp only [Bool.false_eq_true, if_false, if_true, Prod.mk.injEq] at h
    have e : cSd 63 = (36, -1, -1, -3) := rfl
    rw [e]
    simp [cFr, pStr, p4g]
    try omega
  | 64, _, _, p, h => by
    have q0 : pHas 64 0 = false := by decide +kernel
    have q1 : pHas 64 1 = false := by decide +kernel
    have q2 : pHas 64 2 = false := by decide +kernel
    have q3 : pHas 64 3 = true := by decide +kernel
    obtain ⟨d, a, b, i⟩ := p
    unfold nrm at h
    rw [q0, q1, q2, q3] at h
    simp only [Bool.false_eq_true, if_false, if_true, Prod.mk.injEq] at h
    have e : cSd 64 = (2, 0, 0, 0) := rfl
    rw [e]
    simp [cFr, pStr, p4g]
    try omega
  | 65, _, _, p, h => by
    have q0 : pHas 65 0 = false := by decide +kernel
    have q1 : pHas 65 1 = true := by decide +kernel
    have q2 : pHas 65 2 = false := by decide +kernel
    have q3 : pHas 65 3 = true := by decide +kernel
    obtain ⟨d, a, b, i⟩ := p
    unfold nrm at h
    rw [q0, q1, q2, q3] at h
    simp only [Bool.false_eq_true, if_false, if_true, Prod.mk.injEq] at h
    have e : cSd 65 = (4, 0, -2, 0) := rfl
    rw [e]
    simp [cFr, pStr, p4g]
    try omega
  | 66, _, _, p, h => by
    have q0 : pHas 66 0 = false := by decide +kernel
    have q1 : pHas 66 1 = true := by decide +kernel
    have q2 : pHas 66 2 = false := by decide +kernel
    have q3 : pHas 66 3 = true := by decide +kernel
    obtain ⟨d, a, b, i⟩ := p
    unfold nrm at h
    rw [q0, q1, q2, q3] at h
    simp only [Bool.false_eq_true, if_false, if_true, Prod.mk.injEq] at h
    have e : cSd 66 = (5, 0, -2, 0) := rfl
    rw [e]
    simp [cFr, pStr, p4g]
    try omega
  | 67, _, _, p, h => by
    have q0 : pHas 67 0 = true := by decide +kernel
    have q1 : pHas 67 1 = false := by decide +kernel
    have q2 : pHas 67 2 = false := by decide +kernel
    have q3 : pHas 67 3 = true := by decide +kernel
    obtain ⟨d, a, b, i⟩ := p
    unfold nrm at h
    rw [q0, q1, q2, q3] at h
    simp only [Bool.false_eq_true, if_false, if_true, Prod.mk.injEq] at h
    have e : cSd 67 = (24, -1, -1, 0) := rfl
    rw [e]
    simp [cFr, pStr, p4g]
    try omega
  | 68, _, _, p, h => by
    have q0 : pHas 68 0 = true := by decide +kernel
    have q1 : pHas 68 1 = false := by decide +kernel
    have q2 : pHas 68 2 = false := by decide +kernel
    have q3 : pHas 68 3 = true := by decide +kernel
    obtain ⟨d, a, b, i⟩ := p
    unfold nrm at h
    rw [q0, q1, q2, q3] at h
    simp only [Bool.false_eq_true, if_false, if_true, Prod.mk.injEq] at h
    have e : cSd 68 = (12, -1, 2, 0) := rfl
    rw [e]
    simp [cFr, pStr, p4g]
    try omega
  | 69, _, _, p, h => by
    have q0 : pHas 69 0 = false := by decide +kernel
    have q1 : pHas 69 1 = true := by decide +kernel
    have q2 : pHas 69 2 = false := by decide +kernel
    have q3 : pHas 69 3 = false := by decide +kernel
    obtain ⟨d, a, b, i⟩ := p
    unfold nrm at h
    rw [q0, q1, q2, q3] at h
    simp only [Bool.false_eq_true, if_false, if_true, Prod.mk.injEq] at h
    have e : cSd 69 = (3, 0, -2, 0) := rfl
    rw [e]
    simp [cFr, pStr, p4g]
    try omega
  | 70, _, _, p, h => by
    have q0 : pHas 70 0 = true := by decide +kernel
    have q1 : pHas 70 1 = false := by decide +kernel
    have q2 : pHas 70 2 = true := by decide +kernel
    have q3 : pHas 70 3 = false := by decide +kernel
    obtain ⟨d, a, b, i⟩ := p
    unfold nrm at h
    rw [q0, q1, q2, q3] at h
    simp only [Bool.false_eq_true, if_false, if_true, Prod.mk.injEq] at h
    have e : cSd 70 = (27, -1, 0, -3) := rfl
    rw [e]
    simp [cFr, pStr, p4g]
    try omega
  | 71, _, _, p, h => by
    have q0 : pHas 71 0 = false := by decide +kernel
    have q1 : pHas 71 1 = false := by decide +kernel
    have q2 : pHas 71 2 = false := by decide +kernel
    have q3 : pHas 71 3 = false := by decide +kernel
    obtain ⟨d, a, b, i⟩ := p
    unfold nrm at h
    rw [q0, q1, q2, q3] at h
    simp only [Bool.false_eq_true, if_false, if_true, Prod.mk.injEq] at h
    have e : cSd 71 = (47, 0, 0, 0) := rfl
    rw [e]
    simp [cFr, pStr, p4g]
    try omega
  | 72, _, _, p, h => by
    have q0 : pHas 72 0 = false := by decide +kernel
    have q1 : pHas 72 1 = true := by decide +kernel
    have q2 : pHas 72 2 = false := by decide +kernel
    have q3 : pHas 72 3 = false := by decide +kernel
    obtain ⟨d, a, b, i⟩ := p
    unfold nrm at h
    rw [q0, q1, q2, q3] at h
    simp only [Bool.false_eq_true, if_false, if_true, Prod.mk.injEq] at h
    have e : cSd 72 = (3, 1, -2, 0) := rfl
    rw [e]
    simp [cFr, pStr, p4g]
    try omega
  | 73, _, _, p, h => by
    have q0 : pHas 73 0 = true := by decide +kernel
    have q1 : pHas 73 1 = false := by decide +kernel
    have q2 : pHas 73 2 = true := by decide +kernel
    have q3 : pHas 73 3 = false := by decide +kernel
    obtain ⟨d, a, b, i⟩ := p
    unfold nrm at h
    rw [q0, q1, q2, q3] at h
    simp only [Bool.false_eq_true, if_false, if_true, Prod.mk.injEq] at h
    have e : cSd 73 = (27, -1, -1, -3) := rfl
    rw [e]
    simp [cFr, pStr, p4g]
    try omega
  | 74, _, _, p, h => by
    have q0 : pHas 74 0 = false := by decide +kernel
    have q1 : pHas 74 1 = false := by decide +kernel
    have q2 : pHas 74 2 = true := by decide +kernel
    have q3 : pHas 74 3 = true := by decide +kernel
    obtain ⟨d, a, b, i⟩ := p
    unfold nrm at h
    rw [q0, q1, q2, q3] at h
    simp only [Bool.false_eq_true, if_false, if_true, Prod.mk.injEq] at h
    have e : cSd 74 = (17, 0, 2, -3) := rfl
    rw [e]
    simp [cFr, pStr, p4g]
    try omega
  | n + 75, h, _, _, _ => absurd h (by omega)
  | 0, _, h, _, _ => absurd h (by omega)
  | 1, _, h, _, _ => absurd h (by omega)
  | 2, _, h, _, _ => absurd h (by omega)
  | 3, _, h, _, _ => absurd h (by omega)
  | 4, _, h, _, _ => absurd h (by omega)
  | 5, _, h, _, _ => absurd h (by omega)
  | 6, _, h, _, _ => absurd h (by omega)
  | 7, _, h, _, _ => absurd h (by omega)
  | 8, _, h, _, _ => absurd h (by omega)
  | 9, _, h, _, _ => absurd h (by omega)
  | 10, _, h, _, _ => absurd h (by omega)
  | 11, _, h, _, _ => absurd h (by omega)
  | 12, _, h, _, _ => absurd h (by omega)
  | 13, _, h, _, _ => absurd h (by omega)
  | 14, _, h, _, _ => absurd h (by omega)
  | 15, _, h, _, _ => absurd h (by omega)
  | 16, _, h, _, _ => absurd h (by omega)
  | 17, _, h, _, _ => absurd h (by omega)
  | 18, _, h, _, _ => absurd h (by omega)
  | 19, _, h, _, _ => absurd h (by omega)
  | 20, _, h, _, _ => absurd h (by omega)
  | 21, _, h, _, _ => absurd h (by omega)
  | 22, _, h, _, _ => absurd h (by omega)
  | 23, _, h, _, _ => absurd h (by omega)
  | 24, _, h, _, _ => absurd h (by omega)
  | 25, _, h, _, _ => absurd h (by omega)
  | 26, _, h, _, _ => absurd h (by omega)
  | 27, _, h, _, _ => absurd h (by omega)
  | 28, _, h, _, _ => absurd h (by omega)
  | 29, _, h, _, _ => absurd h (by omega)
  | 30, _, h, _, _ => absurd h (by omega)
  | 31, _, h, _, _ => absurd h (by omega)
  | 32, _, h, _, _ => absurd h (by omega)
  | 33, _, h, _, _ => absurd h (by omega)
  | 34, _, h, _, _ => absurd h (by omega)
  | 35, _, h, _, _ => absurd h (by omega)
  | 36, _, h, _, _ => absurd h (by omega)
  | 37, _, h, _, _ => absurd h (by omega)
  | 38, _, h, _, _ => absurd h (by omega)
  | 39, _, h, _, _ => absurd h (by omega)
  | 40, _, h, _, _ => absurd h (by omega)
  | 41, _, h, _, _ => absurd h (by omega)
  | 42, _, h, _, _ => absurd h (by omega)
  | 43, _, h, _, _ => absurd h (by omega)
  | 44, _, h, _, _ => absurd h (by omega)
  | 45, _, h, _, _ => absurd h (by omega)
  | 46, _, h, _, _ => absurd h (by omega)
  | 47, _, h, _, _ => absurd h (by omega)
end jShort
