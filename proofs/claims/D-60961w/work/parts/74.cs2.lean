/-! the component's short words and the twin's kinds: printed by gen_cs2.py -/
set_option maxRecDepth 100000
section jCs2
/-- the parts of a short kind, stretched -/
theorem sl_7112 (w : Int) : pSl 0 16 w = pSl 0 2 w + 4 * pSl 2 5 w + 128 * pSl 7 5 w + 4096 * pSl 12 1 w + 8192 * pSl 13 3 w := by unfold pSl; simp only [show (2 : Int) ^ 0 = 1 from rfl, show (2 : Int) ^ 16 = 65536 from rfl, show (2 : Int) ^ 7 = 128 from rfl, show (2 : Int) ^ 12 = 4096 from rfl, show (2 : Int) ^ 13 = 8192 from rfl, show (2 : Int) ^ 1 = 2 from rfl, show (2 : Int) ^ 2 = 4 from rfl, show (2 : Int) ^ 5 = 32 from rfl, show (2 : Int) ^ 3 = 8 from rfl]; omega
def pStr (k : Nat) (p : jP4) : jP4 :=
  (if k = 51 ∨ k = 64 ∨ k = 69 then 0 else if k = 53 ∨ k = 72 then 1 else if k = 55 then 2 else p.1,
   if k = 52 ∨ k = 57 ∨ k = 58 ∨ k = 59 ∨ k = 60 ∨ k = 61 ∨ k = 62 ∨ k = 63 ∨ k = 67 ∨ k = 73 then p.1 else if k = 48 ∨ k = 55 ∨ k = 68 ∨ k = 74 then 2 else if k = 51 ∨ k = 54 ∨ k = 70 then 0 else p.2.1,
   if k = 65 ∨ k = 66 then 0 else p.2.2.1,
   if k = 51 ∨ k = 69 ∨ k = 72 then 0 else p.2.2.2)
theorem sl07 (w : Int) : pSl 0 7 w = pSl 0 2 w + 4 * pSl 2 5 w := by unfold pSl; simp only [show (2 : Int) ^ 0 = 1 from rfl, show (2 : Int) ^ 2 = 4 from rfl, show (2 : Int) ^ 5 = 32 from rfl, show (2 : Int) ^ 7 = 128 from rfl]; omega
theorem sl106 (w : Int) : pSl 10 6 w = pSl 10 2 w + 4 * pSl 12 1 w + 8 * pSl 13 3 w := by unfold pSl; simp only [show (2 : Int) ^ 10 = 1024 from rfl, show (2 : Int) ^ 12 = 4096 from rfl, show (2 : Int) ^ 13 = 8192 from rfl, show (2 : Int) ^ 1 = 2 from rfl, show (2 : Int) ^ 2 = 4 from rfl, show (2 : Int) ^ 3 = 8 from rfl, show (2 : Int) ^ 6 = 64 from rfl]; omega
theorem sl124 (w : Int) : pSl 12 4 w = pSl 12 1 w + 2 * pSl 13 3 w := by unfold pSl; simp only [show (2 : Int) ^ 12 = 4096 from rfl, show (2 : Int) ^ 13 = 8192 from rfl, show (2 : Int) ^ 1 = 2 from rfl, show (2 : Int) ^ 4 = 16 from rfl, show (2 : Int) ^ 3 = 8 from rfl]; omega
theorem sl016 {w : Int} (h0 : 0 ≤ w) (h1 : w < 65536) : pSl 0 16 w = w := by unfold pSl; simp only [show (2 : Int) ^ 0 = 1 from rfl, show (2 : Int) ^ 16 = 65536 from rfl]; omega
theorem sl_b (w : Int) : (0 ≤ pSl 0 2 w ∧ pSl 0 2 w < 4) ∧ (0 ≤ pSl 2 5 w ∧ pSl 2 5 w < 32) ∧ (0 ≤ pSl 10 2 w ∧ pSl 10 2 w < 4) ∧ (0 ≤ pSl 12 1 w ∧ pSl 12 1 w < 2) ∧ (0 ≤ pSl 13 3 w ∧ pSl 13 3 w < 8) ∧ (0 ≤ pSl 7 5 w ∧ pSl 7 5 w < 32) ∧ (0 ≤ pSl 5 2 w ∧ pSl 5 2 w < 4) := ⟨pSl_lo 0 2 w, pSl_lo 2 5 w, pSl_lo 10 2 w, pSl_lo 12 1 w, pSl_lo 13 3 w, pSl_lo 7 5 w, pSl_lo 5 2 w⟩
theorem six_0 {w : Int} (h : pSl 12 1 w = 0) : cSix w % 32 = pSl 2 5 w := by
  have := (sl_b w).2.1
  unfold cSix sxt; rw [h]; simp only [show (2 : Int) ^ 6 = 64 from rfl, show (2 : Int) ^ (6 - 1) = 32 from rfl]; split <;> omega
theorem six_n (w : Int) : cSix w = 0 ↔ pSl 2 5 w + pSl 12 1 w * 32 = 0 := by
  have := (sl_b w).2.1
  have := (sl_b w).2.2.2.1
  unfold cSix sxt; simp only [show (2 : Int) ^ 6 = 64 from rfl, show (2 : Int) ^ (6 - 1) = 32 from rfl]; split <;> omega

theorem cShort_48 (r : jP4) (w : Int) (h0 : 0 ≤ w) (h1 : w < 65536) (h : pTk 48 w = true) : cShort r w = (18, pStr 48 (pPt 48 w)) := by
  obtain ⟨t1, t2⟩ := pTk_48 w
  rw [t2 h]
  have h := t1.mp h
  obtain ⟨b1, b2, b3, b4, b5, b6, b7⟩ := sl_b w
  have c1 := sl07 w
  have c2 := sl106 w
  have c3 := sl124 w
  have e0_2 : pSl 0 2 w = 0 := by omega
  have e13_3 : pSl 13 3 w = 0 := by omega
  have n0 : ¬ pSl 5 1 w * 8 + pSl 6 1 w * 4 + pSl 7 4 w * 64 + pSl 11 2 w * 16 = 0 := by simp only [h, not_false_eq_true, and_self]
  simp [cShort, cFirst, pStr, cSm, e0_2, e13_3, n0]
theorem cShort_49 (r : jP4) (w : Int) (h0 : 0 ≤ w) (h1 : w < 65536) (h : pTk 49 w = true) : cShort r w = (12, pStr 49 (pPt 49 w)) := by
  obtain ⟨t1, t2⟩ := pTk_49 w
  rw [t2 h]
  have h := t1.mp h
  obtain ⟨b1, b2, b3, b4, b5, b6, b7⟩ := sl_b w
  have c1 := sl07 w
  have c2 := sl106 w
  have c3 := sl124 w
  have e0_2 : pSl 0 2 w = 0 := by omega
  have e13_3 : pSl 13 3 w = 2 := by omega
  simp [cShort, cFirst, pStr, cWord, e0_2, e13_3]
theorem cShort_50 (r : jP4) (w : Int) (h0 : 0 ≤ w) (h1 : w < 65536) (h : pTk 50 w = true) : cShort r w = (17, pStr 50 (pPt 50 w)) := by
  obtain ⟨t1, t2⟩ := pTk_50 w
  rw [t2 h]
  have h := t1.mp h
  obtain ⟨b1, b2, b3, b4, b5, b6, b7⟩ := sl_b w
  have c1 := sl07 w
  have c2 := sl106 w
  have c3 := sl124 w
  have e0_2 : pSl 0 2 w = 0 := by omega
  have e13_3 : pSl 13 3 w = 6 := by omega
  simp [cShort, cFirst, pStr, cWord, e0_2, e13_3]
theorem cShort_51 (r : jP4) (w : Int) (h0 : 0 ≤ w) (h1 : w < 65536) (h : pTk 51 w = true) : cShort r w = (18, pStr 51 (pPt 51 w)) := by
  obtain ⟨t1, t2⟩ := pTk_51 w
  rw [t2 h]
  have h := t1.mp h
  rw [sl016 h0 h1] at h
  subst h
  rfl
theorem cShort_52 (r : jP4) (w : Int) (h0 : 0 ≤ w) (h1 : w < 65536) (h : pTk 52 w = true) : cShort r w = (18, pStr 52 (pPt 52 w)) := by
  obtain ⟨t1, t2⟩ := pTk_52 w
  rw [t2 h]
  have h := t1.mp h
  obtain ⟨b1, b2, b3, b4, b5, b6, b7⟩ := sl_b w
  have c1 := sl07 w
  have c2 := sl106 w
  have c3 := sl124 w
  have e0_2 : pSl 0 2 w = 1 := by omega
  have e13_3 : pSl 13 3 w = 0 := by omega
  have n0 : ¬ pSl 7 5 w = 0 := by simp only [h, not_false_eq_true, and_self]
  have n1 : ¬ sxt 6 (pSl 2 5 w + pSl 12 1 w * 32) = 0 := by simp only [h, not_false_eq_true, and_self]
  simp [cShort, cSecond, cPairs, pStr, cSix, e0_2, e13_3, n0, n1]
theorem cShort_53 (r : jP4) (w : Int) (h0 : 0 ≤ w) (h1 : w < 65536) (h : pTk 53 w = true) : cShort r w = (2, pStr 53 (pPt 53 w)) := by
  obtain ⟨t1, t2⟩ := pTk_53 w
  rw [t2 h]
  have h := t1.mp h
  obtain ⟨b1, b2, b3, b4, b5, b6, b7⟩ := sl_b w
  have c1 := sl07 w
  have c2 := sl106 w
  have c3 := sl124 w
  have e0_2 : pSl 0 2 w = 1 := by omega
  have e13_3 : pSl 13 3 w = 1 := by omega
  simp [cShort, cSecond, cPairs, pStr, cJmp, e0_2, e13_3]
theorem cShort_54 (r : jP4) (w : Int) (h0 : 0 ≤ w) (h1 : w < 65536) (h : pTk 54 w = true) : cShort r w = (18, pStr 54 (pPt 54 w)) := by
  obtain ⟨t1, t2⟩ := pTk_54 w
  rw [t2 h]
  have h := t1.mp h
  obtain ⟨b1, b2, b3, b4, b5, b6, b7⟩ := sl_b w
  have c1 := sl07 w
  have c2 := sl106 w
  have c3 := sl124 w
  have e0_2 : pSl 0 2 w = 1 := by omega
  have e13_3 : pSl 13 3 w = 2 := by omega
  have n0 : ¬ pSl 7 5 w = 0 := by simp only [h, not_false_eq_true, and_self]
  simp [cShort, cSecond, cPairs, pStr, cSix, e0_2, e13_3, n0]
theorem cShort_55 (r : jP4) (w : Int) (h0 : 0 ≤ w) (h1 : w < 65536) (h : pTk 55 w = true) : cShort r w = (18, pStr 55 (pPt 55 w)) := by
  obtain ⟨t1, t2⟩ := pTk_55 w
  rw [t2 h]
  have h := t1.mp h
  obtain ⟨b1, b2, b3, b4, b5, b6, b7⟩ := sl_b w
  have c1 := sl07 w
  have c2 := sl106 w
  have c3 := sl124 w
  have e0_2 : pSl 0 2 w = 1 := by omega
  have e7_5 : pSl 7 5 w = 2 := by omega
  have e13_3 : pSl 13 3 w = 3 := by omega
  have n0 : ¬ sxt 10 (pSl 2 1 w * 32 + pSl 3 2 w * 128 + pSl 5 1 w * 64 + pSl 6 1 w * 16 + pSl 12 1 w * 512) = 0 := by simp only [h, not_false_eq_true, and_self]
  simp [cShort, cSecond, cPairs, pStr, cFar, e0_2, e7_5, e13_3, n0]
theorem cShort_56 (r : jP4) (w : Int) (h0 : 0 ≤ w) (h1 : w < 65536) (h : pTk 56 w = true) : cShort r w = (0, pStr 56 (pPt 56 w)) := by
  obtain ⟨t1, t2⟩ := pTk_56 w
  rw [t2 h]
  have h := t1.mp h
  obtain ⟨b1, b2, b3, b4, b5, b6, b7⟩ := sl_b w
  have c1 := sl07 w
  have c2 := sl106 w
  have c3 := sl124 w
  have e0_2 : pSl 0 2 w = 1 := by omega
  have e13_3 : pSl 13 3 w = 3 := by omega
  have n0 : ¬ pSl 7 5 w = 0 := by simp only [h, not_false_eq_true, and_self]
  have n1 : ¬ pSl 7 5 w = 2 := by simp only [h, not_false_eq_true, and_self]
  have n2 : ¬ pSl 2 5 w + pSl 12 1 w * 32 = 0 := by simp only [h, not_false_eq_true, and_self]
  simp [cShort, cSecond, cPairs, pStr, six_n, e0_2, e13_3, n0, n1, n2]
  try simp [cSix]
theorem cShort_57 (r : jP4) (w : Int) (h0 : 0 ≤ w) (h1 : w < 65536) (h : pTk 57 w = true) : cShort r w = (25, pStr 57 (pPt 57 w)) := by
  obtain ⟨t1, t2⟩ := pTk_57 w
  rw [t2 h]
  have h := t1.mp h
  obtain ⟨b1, b2, b3, b4, b5, b6, b7⟩ := sl_b w
  have c1 := sl07 w
  have c2 := sl106 w
  have c3 := sl124 w
  have e0_2 : pSl 0 2 w = 1 := by omega
  have e10_2 : pSl 10 2 w = 0 := by omega
  have e12_1 : pSl 12 1 w = 0 := by omega
  have e13_3 : pSl 13 3 w = 4 := by omega
  have n0 : ¬ pSl 2 5 w = 0 := by simp only [h, not_false_eq_true, and_self]
  simp [cShort, cSecond, cPairs, pStr, six_0 e12_1, e0_2, e10_2, e12_1, e13_3, n0]
theorem cShort_58 (r : jP4) (w : Int) (h0 : 0 ≤ w) (h1 : w < 65536) (h : pTk 58 w = true) : cShort r w = (26, pStr 58 (pPt 58 w)) := by
  obtain ⟨t1, t2⟩ := pTk_58 w
  rw [t2 h]
  have h := t1.mp h
  obtain ⟨b1, b2, b3, b4, b5, b6, b7⟩ := sl_b w
  have c1 := sl07 w
  have c2 := sl106 w
  have c3 := sl124 w
  have e0_2 : pSl 0 2 w = 1 := by omega
  have e10_2 : pSl 10 2 w = 1 := by omega
  have e12_1 : pSl 12 1 w = 0 := by omega
  have e13_3 : pSl 13 3 w = 4 := by omega
  have n0 : ¬ pSl 2 5 w = 0 := by simp only [h, not_false_eq_true, and_self]
  simp [cShort, cSecond, cPairs, pStr, six_0 e12_1, e0_2, e10_2, e12_1, e13_3, n0]
theorem cShort_59 (r : jP4) (w : Int) (h0 : 0 ≤ w) (h1 : w < 65536) (h : pTk 59 w = true) : cShort r w = (23, pStr 59 (pPt 59 w)) := by
  obtain ⟨t1, t2⟩ := pTk_59 w
  rw [t2 h]
  have h := t1.mp h
  obtain ⟨b1, b2, b3, b4, b5, b6, b7⟩ := sl_b w
  have c1 := sl07 w
  have c2 := sl106 w
  have c3 := sl124 w
  have e0_2 : pSl 0 2 w = 1 := by omega
  have e10_2 : pSl 10 2 w = 2 := by omega
  have e13_3 : pSl 13 3 w = 4 := by omega
  simp [cShort, cSecond, cPairs, pStr, cSix, e0_2, e10_2, e13_3]
theorem cShort_60 (r : jP4) (w : Int) (h0 : 0 ≤ w) (h1 : w < 65536) (h : pTk 60 w = true) : cShort r w = (28, pStr 60 (pPt 60 w)) := by
  obtain ⟨t1, t2⟩ := pTk_60 w
  rw [t2 h]
  have h := t1.mp h
  obtain ⟨b1, b2, b3, b4, b5, b6, b7⟩ := sl_b w
  have c1 := sl07 w
  have c2 := sl106 w
  have c3 := sl124 w
  have e0_2 : pSl 0 2 w = 1 := by omega
  have e5_2 : pSl 5 2 w = 0 := by omega
  have e10_2 : pSl 10 2 w = 3 := by omega
  have e12_1 : pSl 12 1 w = 0 := by omega
  have e13_3 : pSl 13 3 w = 4 := by omega
  simp [cShort, cSecond, cPairs, pStr, e0_2, e5_2, e10_2, e12_1, e13_3]
theorem cShort_61 (r : jP4) (w : Int) (h0 : 0 ≤ w) (h1 : w < 65536) (h : pTk 61 w = true) : cShort r w = (32, pStr 61 (pPt 61 w)) := by
  obtain ⟨t1, t2⟩ := pTk_61 w
  rw [t2 h]
  have h := t1.mp h
  obtain ⟨b1, b2, b3, b4, b5, b6, b7⟩ := sl_b w
  have c1 := sl07 w
  have c2 := sl106 w
  have c3 := sl124 w
  have e0_2 : pSl 0 2 w = 1 := by omega
  have e5_2 : pSl 5 2 w = 1 := by omega
  have e10_2 : pSl 10 2 w = 3 := by omega
  have e12_1 : pSl 12 1 w = 0 := by omega
  have e13_3 : pSl 13 3 w = 4 := by omega
  simp [cShort, cSecond, cPairs, pStr, e0_2, e5_2, e10_2, e12_1, e13_3]
theorem cShort_62 (r : jP4) (w : Int) (h0 : 0 ≤ w) (h1 : w < 65536) (h : pTk 62 w = true) : cShort r w = (35, pStr 62 (pPt 62 w)) := by
  obtain ⟨t1, t2⟩ := pTk_62 w
  rw [t2 h]
  have h := t1.mp h
  obtain ⟨b1, b2, b3, b4, b5, b6, b7⟩ := sl_b w
  have c1 := sl07 w
  have c2 := sl106 w
  have c3 := sl124 w
  have e0_2 : pSl 0 2 w = 1 := by omega
  have e5_2 : pSl 5 2 w = 2 := by omega
  have e10_2 : pSl 10 2 w = 3 := by omega
  have e12_1 : pSl 12 1 w = 0 := by omega
  have e13_3 : pSl 13 3 w = 4 := by omega
  simp [cShort, cSecond, cPairs, pStr, e0_2, e5_2, e10_2, e12_1, e13_3]
theorem cShort_63 (r : jP4) (w : Int) (h0 : 0 ≤ w) (h1 : w < 65536) (h : pTk 63 w = true) : cShort r w = (36, pStr 63 (pPt 63 w)) := by
  obtain ⟨t1, t2⟩ := pTk_63 w
  rw [t2 h]
  have h := t1.mp h
  obtain ⟨b1, b2, b3, b4, b5, b6, b7⟩ := sl_b w
  have c1 := sl07 w
  have c2 := sl106 w
  have c3 := sl124 w
  have e0_2 : pSl 0 2 w = 1 := by omega
  have e5_2 : pSl 5 2 w = 3 := by omega
  have e10_2 : pSl 10 2 w = 3 := by omega
  have e12_1 : pSl 12 1 w = 0 := by omega
  have e13_3 : pSl 13 3 w = 4 := by omega
  simp [cShort, cSecond, cPairs, pStr, e0_2, e5_2, e10_2, e12_1, e13_3]
theorem cShort_64 (r : jP4) (w : Int) (h0 : 0 ≤ w) (h1 : w < 65536) (h : pTk 64 w = true) : cShort r w = (2, pStr 64 (pPt 64 w)) := by
  obtain ⟨t1, t2⟩ := pTk_64 w
  rw [t2 h]
  have h := t1.mp h
  obtain ⟨b1, b2, b3, b4, b5, b6, b7⟩ := sl_b w
  have c1 := sl07 w
  have c2 := sl106 w
  have c3 := sl124 w
  have e0_2 : pSl 0 2 w = 1 := by omega
  have e13_3 : pSl 13 3 w = 5 := by omega
  simp [cShort, cSecond, cPairs, pStr, cJmp, e0_2, e13_3]
theorem cShort_65 (r : jP4) (w : Int) (h0 : 0 ≤ w) (h1 : w < 65536) (h : pTk 65 w = true) : cShort r w = (4, pStr 65 (pPt 65 w)) := by
  obtain ⟨t1, t2⟩ := pTk_65 w
  rw [t2 h]
  have h := t1.mp h
  obtain ⟨b1, b2, b3, b4, b5, b6, b7⟩ := sl_b w
  have c1 := sl07 w
  have c2 := sl106 w
  have c3 := sl124 w
  have e0_2 : pSl 0 2 w = 1 := by omega
  have e13_3 : pSl 13 3 w = 6 := by omega
  simp [cShort, cSecond, cPairs, pStr, cBrn, e0_2, e13_3]
theorem cShort_66 (r : jP4) (w : Int) (h0 : 0 ≤ w) (h1 : w < 65536) (h : pTk 66 w = true) : cShort r w = (5, pStr 66 (pPt 66 w)) := by
  obtain ⟨t1, t2⟩ := pTk_66 w
  rw [t2 h]
  have h := t1.mp h
  obtain ⟨b1, b2, b3, b4, b5, b6, b7⟩ := sl_b w
  have c1 := sl07 w
  have c2 := sl106 w
  have c3 := sl124 w
  have e0_2 : pSl 0 2 w = 1 := by omega
  have e13_3 : pSl 13 3 w = 7 := by omega
  simp [cShort, cSecond, cPairs, pStr, cBrn, e0_2, e13_3]
theorem cShort_67 (r : jP4) (w : Int) (h0 : 0 ≤ w) (h1 : w < 65536) (h : pTk 67 w = true) : cShort r w = (24, pStr 67 (pPt 67 w)) := by
  obtain ⟨t1, t2⟩ := pTk_67 w
  rw [t2 h]
  have h := t1.mp h
  obtain ⟨b1, b2, b3, b4, b5, b6, b7⟩ := sl_b w
  have c1 := sl07 w
  have c2 := sl106 w
  have c3 := sl124 w
  have e0_2 : pSl 0 2 w = 2 := by omega
  have e12_1 : pSl 12 1 w = 0 := by omega
  have e13_3 : pSl 13 3 w = 0 := by omega
  have n0 : ¬ pSl 7 5 w = 0 := by simp only [h, not_false_eq_true, and_self]
  have n1 : ¬ pSl 2 5 w = 0 := by simp only [h, not_false_eq_true, and_self]
  simp [cShort, cThird, pStr, e0_2, e12_1, e13_3, n0, n1]
theorem cShort_68 (r : jP4) (w : Int) (h0 : 0 ≤ w) (h1 : w < 65536) (h : pTk 68 w = true) : cShort r w = (12, pStr 68 (pPt 68 w)) := by
  obtain ⟨t1, t2⟩ := pTk_68 w
  rw [t2 h]
  have h := t1.mp h
  obtain ⟨b1, b2, b3, b4, b5, b6, b7⟩ := sl_b w
  have c1 := sl07 w
  have c2 := sl106 w
  have c3 := sl124 w
  have e0_2 : pSl 0 2 w = 2 := by omega
  have e13_3 : pSl 13 3 w = 2 := by omega
  have n0 : ¬ pSl 7 5 w = 0 := by simp only [h, not_false_eq_true, and_self]
  simp [cShort, cThird, pStr, cT2, e0_2, e13_3, n0]
theorem cShort_69 (r : jP4) (w : Int) (h0 : 0 ≤ w) (h1 : w < 65536) (h : pTk 69 w = true) : cShort r w = (3, pStr 69 (pPt 69 w)) := by
  obtain ⟨t1, t2⟩ := pTk_69 w
  rw [t2 h]
  have h := t1.mp h
  obtain ⟨b1, b2, b3, b4, b5, b6, b7⟩ := sl_b w
  have c1 := sl07 w
  have c2 := sl106 w
  have c3 := sl124 w
  have e0_2 : pSl 0 2 w = 2 := by omega
  have e2_5 : pSl 2 5 w = 0 := by omega
  have e12_1 : pSl 12 1 w = 0 := by omega
  have e13_3 : pSl 13 3 w = 4 := by omega
  have n0 : ¬ pSl 7 5 w = 0 := by simp only [h, not_false_eq_true, and_self]
  simp [cShort, cThird, pStr, e0_2, e2_5, e12_1, e13_3, n0]
theorem cShort_70 (r : jP4) (w : Int) (h0 : 0 ≤ w) (h1 : w < 65536) (h : pTk 70 w = true) : cShort r w = (27, pStr 70 (pPt 70 w)) := by
  obtain ⟨t1, t2⟩ := pTk_70 w
  rw [t2 h]
  have h := t1.mp h
  obtain ⟨b1, b2, b3, b4, b5, b6, b7⟩ := sl_b w
  have c1 := sl07 w
  have c2 := sl106 w
  have c3 := sl124 w
  have e0_2 : pSl 0 2 w = 2 := by omega
  have e12_1 : pSl 12 1 w = 0 := by omega
  have e13_3 : pSl 13 3 w = 4 := by omega
  have n0 : ¬ pSl 7 5 w = 0 := by simp only [h, not_false_eq_true, and_self]
  have n1 : ¬ pSl 2 5 w = 0 := by simp only [h, not_false_eq_true, and_self]
  simp [cShort, cThird, pStr, e0_2, e12_1, e13_3, n0, n1]
theorem cShort_71 (r : jP4) (w : Int) (h0 : 0 ≤ w) (h1 : w < 65536) (h : pTk 71 w = true) : cShort r w = (47, pStr 71 (pPt 71 w)) := by
  obtain ⟨t1, t2⟩ := pTk_71 w
  rw [t2 h]
  have h := t1.mp h
  rw [sl016 h0 h1] at h
  subst h
  rfl
theorem cShort_72 (r : jP4) (w : Int) (h0 : 0 ≤ w) (h1 : w < 65536) (h : pTk 72 w = true) : cShort r w = (3, pStr 72 (pPt 72 w)) := by
  obtain ⟨t1, t2⟩ := pTk_72 w
  rw [t2 h]
  have h := t1.mp h
  obtain ⟨b1, b2, b3, b4, b5, b6, b7⟩ := sl_b w
  have c1 := sl07 w
  have c2 := sl106 w
  have c3 := sl124 w
  have e0_2 : pSl 0 2 w = 2 := by omega
  have e2_5 : pSl 2 5 w = 0 := by omega
  have e12_1 : pSl 12 1 w = 1 := by omega
  have e13_3 : pSl 13 3 w = 4 := by omega
  have n0 : ¬ pSl 7 5 w = 0 := by simp only [h, not_false_eq_true, and_self]
  simp [cShort, cThird, pStr, e0_2, e2_5, e12_1, e13_3, n0]
theorem cShort_73 (r : jP4) (w : Int) (h0 : 0 ≤ w) (h1 : w < 65536) (h : pTk 73 w = true) : cShort r w = (27, pStr 73 (pPt 73 w)) := by
  obtain ⟨t1, t2⟩ := pTk_73 w
  rw [t2 h]
  have h := t1.mp h
  obtain ⟨b1, b2, b3, b4, b5, b6, b7⟩ := sl_b w
  have c1 := sl07 w
  have c2 := sl106 w
  have c3 := sl124 w
  have e0_2 : pSl 0 2 w = 2 := by omega
  have e12_1 : pSl 12 1 w = 1 := by omega
  have e13_3 : pSl 13 3 w = 4 := by omega
  have n0 : ¬ pSl 7 5 w = 0 := by simp only [h, not_false_eq_true, and_self]
  have n1 : ¬ pSl 2 5 w = 0 := by simp only [h, not_false_eq_true, and_self]
  simp [cShort, cThird, pStr, e0_2, e12_1, e13_3, n0, n1]
theorem cShort_74 (r : jP4) (w : Int) (h0 : 0 ≤ w) (h1 : w < 65536) (h : pTk 74 w = true) : cShort r w = (17, pStr 74 (pPt 74 w)) := by
  obtain ⟨t1, t2⟩ := pTk_74 w
  rw [t2 h]
  have h := t1.mp h
  obtain ⟨b1, b2, b3, b4, b5, b6, b7⟩ := sl_b w
  have c1 := sl07 w
  have c2 := sl106 w
  have c3 := sl124 w
  have e0_2 : pSl 0 2 w = 2 := by omega
  have e13_3 : pSl 13 3 w = 6 := by omega
  simp [cShort, cThird, pStr, cT6, e0_2, e13_3]
theorem cShort_no (r : jP4) (w : Int) (h0 : 0 ≤ w) (h1 : w < 65536) (h3 : ¬ pSl 0 2 w = 3) (h : ∀ k : Nat, 48 ≤ k → k < 75 → pTk k w = false) : (cShort r w).1 = -1 := by
  obtain ⟨b1, b2, b3, b4, b5, b6, b7⟩ := sl_b w
  have c1 := sl07 w
  have c2 := sl106 w
  have c3 := sl124 w
  have c4 := sl016 h0 h1
  have G : ∀ (k : Nat) (P : Prop), 48 ≤ k → k < 75 → (pTk k w = true ↔ P) → ¬ P := fun k P hj hk he q => absurd (he.mpr q) (by rw [h k hj hk]; decide)
  unfold cShort
  by_cases a0 : pSl 0 2 w = 0
  · rw [if_pos a0]; unfold cFirst
    by_cases e0 : pSl 13 3 w = 0
    · rw [if_pos e0, if_pos (by apply Classical.byContradiction; intro q; exact G 48 _ (by decide) (by decide) (pTk_48 w).1 ⟨a0, e0, q⟩)]
    · rw [if_neg e0]
      rw [if_neg (fun q => G 49 _ (by decide) (by decide) (pTk_49 w).1 ⟨a0, q⟩), if_neg (fun q => G 50 _ (by decide) (by decide) (pTk_50 w).1 ⟨a0, q⟩)]
  rw [if_neg a0]
  by_cases a1 : pSl 0 2 w = 1
  · rw [if_pos a1]; unfold cSecond
    by_cases e : pSl 13 3 w = 0
    · rw [if_pos e, if_neg (fun q => ?_)]
      rcases q with q | q
      · exact G 51 _ (by decide) (by decide) (pTk_51 w).1 (by omega)
      · exact G 52 _ (by decide) (by decide) (pTk_52 w).1 ⟨a1, e, q.1, q.2⟩
    rw [if_neg e]
    rw [if_neg (fun q => G 53 _ (by decide) (by decide) (pTk_53 w).1 ⟨a1, q⟩)]
    by_cases e : pSl 13 3 w = 2
    · rw [if_pos e, if_pos (by apply Classical.byContradiction; intro q; exact G 54 _ (by decide) (by decide) (pTk_54 w).1 ⟨a1, e, q⟩)]
    rw [if_neg e]
    by_cases e : pSl 13 3 w = 3
    · rw [if_pos e]
      by_cases e2 : pSl 7 5 w = 2
      · rw [if_pos e2, if_pos (by apply Classical.byContradiction; intro q; exact G 55 _ (by decide) (by decide) (pTk_55 w).1 ⟨a1, e2, e, q⟩)]
      · rw [if_neg e2, if_pos]
        apply Classical.byContradiction
        intro q
        rw [six_n] at q
        exact G 56 _ (by decide) (by decide) (pTk_56 w).1 ⟨a1, e, fun x => q (.inl x), e2, fun x => q (.inr x)⟩
    rw [if_neg e]
    by_cases e : pSl 13 3 w = 4
    · rw [if_pos e]; unfold cPairs
      by_cases e2 : pSl 10 2 w < 2
      · rw [if_pos e2, if_neg]
        rintro ⟨q1, q2⟩
        rw [six_0 q1] at q2
        by_cases e3 : pSl 10 2 w = 0
        · exact G 57 _ (by decide) (by decide) (pTk_57 w).1 ⟨a1, by omega, q2⟩
        · exact G 58 _ (by decide) (by decide) (pTk_58 w).1 ⟨a1, by omega, q2⟩
      rw [if_neg e2]
      rw [if_neg (fun q => G 59 _ (by decide) (by decide) (pTk_59 w).1 ⟨a1, q, e⟩)]
      have e4 : pSl 10 2 w = 3 := by
        have : ¬ pSl 10 2 w = 2 := fun q => G 59 _ (by decide) (by decide) (pTk_59 w).1 ⟨a1, q, e⟩
        omega
      rw [if_neg]
      intro q
      by_cases z0 : pSl 5 2 w = 0
      · exact G 60 _ (by decide) (by decide) (pTk_60 w).1 ⟨a1, z0, by omega⟩
      by_cases z1 : pSl 5 2 w = 1
      · exact G 61 _ (by decide) (by decide) (pTk_61 w).1 ⟨a1, z1, by omega⟩
      by_cases z2 : pSl 5 2 w = 2
      · exact G 62 _ (by decide) (by decide) (pTk_62 w).1 ⟨a1, z2, by omega⟩
      · exact G 63 _ (by decide) (by decide) (pTk_63 w).1 ⟨a1, by omega, by omega⟩
    rw [if_neg e]
    rw [if_neg (fun q => G 64 _ (by decide) (by decide) (pTk_64 w).1 ⟨a1, q⟩), if_neg (fun q => G 65 _ (by decide) (by decide) (pTk_65 w).1 ⟨a1, q⟩)]
    exact absurd (show pSl 13 3 w = 7 by
      have : ¬ pSl 13 3 w = 1 := fun q => G 53 _ (by decide) (by decide) (pTk_53 w).1 ⟨a1, q⟩
      have : ¬ pSl 13 3 w = 5 := fun q => G 64 _ (by decide) (by decide) (pTk_64 w).1 ⟨a1, q⟩
      have : ¬ pSl 13 3 w = 6 := fun q => G 65 _ (by decide) (by decide) (pTk_65 w).1 ⟨a1, q⟩
      omega) (fun q => G 66 _ (by decide) (by decide) (pTk_66 w).1 ⟨a1, q⟩)
  rw [if_neg a1]
  have a2 : pSl 0 2 w = 2 := by omega
  unfold cThird
  by_cases e : pSl 13 3 w = 0
  · rw [if_pos e, if_neg]
    rintro ⟨q1, q2, q3⟩
    exact G 67 _ (by decide) (by decide) (pTk_67 w).1 ⟨a2, by omega, q1, q2⟩
  rw [if_neg e]
  by_cases e : pSl 13 3 w = 2
  · rw [if_pos e, if_pos (by apply Classical.byContradiction; intro q; exact G 68 _ (by decide) (by decide) (pTk_68 w).1 ⟨a2, e, q⟩)]
  rw [if_neg e]
  by_cases e : pSl 13 3 w = 4
  · rw [if_pos e]
    by_cases z2 : pSl 2 5 w = 0
    · rw [if_pos z2]
      by_cases z7 : pSl 7 5 w = 0
      · rw [if_pos z7, if_neg]
        intro q
        refine G 71 _ (by decide) (by decide) (pTk_71 w).1 ?_
        have := sl_7112 w
        omega
      · exfalso
        by_cases q : pSl 12 1 w = 1
        · exact G 72 _ (by decide) (by decide) (pTk_72 w).1 ⟨by omega, by omega, z7⟩
        · exact G 69 _ (by decide) (by decide) (pTk_69 w).1 ⟨by omega, by omega, z7⟩
    · rw [if_neg z2, if_pos]
      apply Classical.byContradiction
      intro z7
      by_cases q : pSl 12 1 w = 1
      · exact G 73 _ (by decide) (by decide) (pTk_73 w).1 ⟨a2, by omega, z7, z2⟩
      · exact G 70 _ (by decide) (by decide) (pTk_70 w).1 ⟨a2, by omega, z7, z2⟩
  rw [if_neg e]
  rw [if_neg (fun q => G 74 _ (by decide) (by decide) (pTk_74 w).1 ⟨a2, q⟩)]
end jCs2
