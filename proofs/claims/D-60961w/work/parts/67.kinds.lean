/-! of each kind when a word is of it, and its parts: printed by gen_kinds.py -/
set_option maxRecDepth 100000
section jKinds
theorem pIni_l : ∀ k, k < 48 → pIni k = (0, 0, 0, 0) := by decide +kernel
theorem pIni_0 : pIni 0 = (0, 0, 0, 0) := by decide +kernel
theorem pRes_0 (w : Int) : pRes 0 w = if pSl 0 7 w = 55 then some (pSl 7 5 w, 0, 0, pSl 12 20 w) else none := by
  unfold pRes
  rw [pIni_0, show pKr 0 = [(7, 0, 55), (5, 100, 0), (20, 400, 0)] from rfl]
  simp [prn, p4a, pce, p4s, p4g, Int.add_assoc]
  try grind
theorem pIni_1 : pIni 1 = (0, 0, 0, 0) := by decide +kernel
theorem pRes_1 (w : Int) : pRes 1 w = if pSl 0 7 w = 23 then some (pSl 7 5 w, 0, 0, pSl 12 20 w) else none := by
  unfold pRes
  rw [pIni_1, show pKr 1 = [(7, 0, 23), (5, 100, 0), (20, 400, 0)] from rfl]
  simp [prn, p4a, pce, p4s, p4g, Int.add_assoc]
  try grind
theorem pIni_2 : pIni 2 = (0, 0, 0, 0) := by decide +kernel
theorem pRes_2 (w : Int) : pRes 2 w = if pSl 0 7 w = 111 then some (pSl 7 5 w, 0, 0, pSl 12 8 w * 4096 + pSl 20 1 w * 2048 + pSl 21 10 w * 2 + pSl 31 1 w * 1048576) else none := by
  unfold pRes
  rw [pIni_2, show pKr 2 = [(7, 0, 111), (5, 100, 0), (8, 412, 0), (1, 411, 0), (10, 401, 0), (1, 420, 0)] from rfl]
  simp [prn, p4a, pce, p4s, p4g, Int.add_assoc]
  try grind
theorem pIni_3 : pIni 3 = (0, 0, 0, 0) := by decide +kernel
theorem pRes_3 (w : Int) : pRes 3 w = if pSl 0 7 w = 103 ∧ pSl 12 3 w = 0 then some (pSl 7 5 w, pSl 15 5 w, 0, pSl 20 12 w) else none := by
  unfold pRes
  rw [pIni_3, show pKr 3 = [(7, 0, 103), (5, 100, 0), (3, 0, 0), (5, 200, 0), (12, 400, 0)] from rfl]
  simp [prn, p4a, pce, p4s, p4g, Int.add_assoc]
  try grind
theorem pIni_4 : pIni 4 = (0, 0, 0, 0) := by decide +kernel
theorem pRes_4 (w : Int) : pRes 4 w = if pSl 0 7 w = 99 ∧ pSl 12 3 w = 0 then some (0, pSl 15 5 w, pSl 20 5 w, pSl 7 1 w * 2048 + pSl 8 4 w * 2 + pSl 25 6 w * 32 + pSl 31 1 w * 4096) else none := by
  unfold pRes
  rw [pIni_4, show pKr 4 = [(7, 0, 99), (1, 411, 0), (4, 401, 0), (3, 0, 0), (5, 200, 0), (5, 300, 0), (6, 405, 0), (1, 412, 0)] from rfl]
  simp [prn, p4a, pce, p4s, p4g, Int.add_assoc]
  try grind
theorem pIni_5 : pIni 5 = (0, 0, 0, 0) := by decide +kernel
theorem pRes_5 (w : Int) : pRes 5 w = if pSl 0 7 w = 99 ∧ pSl 12 3 w = 1 then some (0, pSl 15 5 w, pSl 20 5 w, pSl 7 1 w * 2048 + pSl 8 4 w * 2 + pSl 25 6 w * 32 + pSl 31 1 w * 4096) else none := by
  unfold pRes
  rw [pIni_5, show pKr 5 = [(7, 0, 99), (1, 411, 0), (4, 401, 0), (3, 0, 1), (5, 200, 0), (5, 300, 0), (6, 405, 0), (1, 412, 0)] from rfl]
  simp [prn, p4a, pce, p4s, p4g, Int.add_assoc]
  try grind
theorem pIni_6 : pIni 6 = (0, 0, 0, 0) := by decide +kernel
theorem pRes_6 (w : Int) : pRes 6 w = if pSl 0 7 w = 99 ∧ pSl 12 3 w = 4 then some (0, pSl 15 5 w, pSl 20 5 w, pSl 7 1 w * 2048 + pSl 8 4 w * 2 + pSl 25 6 w * 32 + pSl 31 1 w * 4096) else none := by
  unfold pRes
  rw [pIni_6, show pKr 6 = [(7, 0, 99), (1, 411, 0), (4, 401, 0), (3, 0, 4), (5, 200, 0), (5, 300, 0), (6, 405, 0), (1, 412, 0)] from rfl]
  simp [prn, p4a, pce, p4s, p4g, Int.add_assoc]
  try grind
theorem pIni_7 : pIni 7 = (0, 0, 0, 0) := by decide +kernel
theorem pRes_7 (w : Int) : pRes 7 w = if pSl 0 7 w = 99 ∧ pSl 12 3 w = 5 then some (0, pSl 15 5 w, pSl 20 5 w, pSl 7 1 w * 2048 + pSl 8 4 w * 2 + pSl 25 6 w * 32 + pSl 31 1 w * 4096) else none := by
  unfold pRes
  rw [pIni_7, show pKr 7 = [(7, 0, 99), (1, 411, 0), (4, 401, 0), (3, 0, 5), (5, 200, 0), (5, 300, 0), (6, 405, 0), (1, 412, 0)] from rfl]
  simp [prn, p4a, pce, p4s, p4g, Int.add_assoc]
  try grind
theorem pIni_8 : pIni 8 = (0, 0, 0, 0) := by decide +kernel
theorem pRes_8 (w : Int) : pRes 8 w = if pSl 0 7 w = 99 ∧ pSl 12 3 w = 6 then some (0, pSl 15 5 w, pSl 20 5 w, pSl 7 1 w * 2048 + pSl 8 4 w * 2 + pSl 25 6 w * 32 + pSl 31 1 w * 4096) else none := by
  unfold pRes
  rw [pIni_8, show pKr 8 = [(7, 0, 99), (1, 411, 0), (4, 401, 0), (3, 0, 6), (5, 200, 0), (5, 300, 0), (6, 405, 0), (1, 412, 0)] from rfl]
  simp [prn, p4a, pce, p4s, p4g, Int.add_assoc]
  try grind
theorem pIni_9 : pIni 9 = (0, 0, 0, 0) := by decide +kernel
theorem pRes_9 (w : Int) : pRes 9 w = if pSl 0 7 w = 99 ∧ pSl 12 3 w = 7 then some (0, pSl 15 5 w, pSl 20 5 w, pSl 7 1 w * 2048 + pSl 8 4 w * 2 + pSl 25 6 w * 32 + pSl 31 1 w * 4096) else none := by
  unfold pRes
  rw [pIni_9, show pKr 9 = [(7, 0, 99), (1, 411, 0), (4, 401, 0), (3, 0, 7), (5, 200, 0), (5, 300, 0), (6, 405, 0), (1, 412, 0)] from rfl]
  simp [prn, p4a, pce, p4s, p4g, Int.add_assoc]
  try grind
theorem pIni_10 : pIni 10 = (0, 0, 0, 0) := by decide +kernel
theorem pRes_10 (w : Int) : pRes 10 w = if pSl 0 7 w = 3 ∧ pSl 12 3 w = 0 then some (pSl 7 5 w, pSl 15 5 w, 0, pSl 20 12 w) else none := by
  unfold pRes
  rw [pIni_10, show pKr 10 = [(7, 0, 3), (5, 100, 0), (3, 0, 0), (5, 200, 0), (12, 400, 0)] from rfl]
  simp [prn, p4a, pce, p4s, p4g, Int.add_assoc]
  try grind
theorem pIni_11 : pIni 11 = (0, 0, 0, 0) := by decide +kernel
theorem pRes_11 (w : Int) : pRes 11 w = if pSl 0 7 w = 3 ∧ pSl 12 3 w = 1 then some (pSl 7 5 w, pSl 15 5 w, 0, pSl 20 12 w) else none := by
  unfold pRes
  rw [pIni_11, show pKr 11 = [(7, 0, 3), (5, 100, 0), (3, 0, 1), (5, 200, 0), (12, 400, 0)] from rfl]
  simp [prn, p4a, pce, p4s, p4g, Int.add_assoc]
  try grind
theorem pIni_12 : pIni 12 = (0, 0, 0, 0) := by decide +kernel
theorem pRes_12 (w : Int) : pRes 12 w = if pSl 0 7 w = 3 ∧ pSl 12 3 w = 2 then some (pSl 7 5 w, pSl 15 5 w, 0, pSl 20 12 w) else none := by
  unfold pRes
  rw [pIni_12, show pKr 12 = [(7, 0, 3), (5, 100, 0), (3, 0, 2), (5, 200, 0), (12, 400, 0)] from rfl]
  simp [prn, p4a, pce, p4s, p4g, Int.add_assoc]
  try grind
theorem pIni_13 : pIni 13 = (0, 0, 0, 0) := by decide +kernel
theorem pRes_13 (w : Int) : pRes 13 w = if pSl 0 7 w = 3 ∧ pSl 12 3 w = 4 then some (pSl 7 5 w, pSl 15 5 w, 0, pSl 20 12 w) else none := by
  unfold pRes
  rw [pIni_13, show pKr 13 = [(7, 0, 3), (5, 100, 0), (3, 0, 4), (5, 200, 0), (12, 400, 0)] from rfl]
  simp [prn, p4a, pce, p4s, p4g, Int.add_assoc]
  try grind
theorem pIni_14 : pIni 14 = (0, 0, 0, 0) := by decide +kernel
theorem pRes_14 (w : Int) : pRes 14 w = if pSl 0 7 w = 3 ∧ pSl 12 3 w = 5 then some (pSl 7 5 w, pSl 15 5 w, 0, pSl 20 12 w) else none := by
  unfold pRes
  rw [pIni_14, show pKr 14 = [(7, 0, 3), (5, 100, 0), (3, 0, 5), (5, 200, 0), (12, 400, 0)] from rfl]
  simp [prn, p4a, pce, p4s, p4g, Int.add_assoc]
  try grind
theorem pIni_15 : pIni 15 = (0, 0, 0, 0) := by decide +kernel
theorem pRes_15 (w : Int) : pRes 15 w = if pSl 0 7 w = 35 ∧ pSl 12 3 w = 0 then some (0, pSl 15 5 w, pSl 20 5 w, pSl 7 5 w + pSl 25 7 w * 32) else none := by
  unfold pRes
  rw [pIni_15, show pKr 15 = [(7, 0, 35), (5, 400, 0), (3, 0, 0), (5, 200, 0), (5, 300, 0), (7, 405, 0)] from rfl]
  simp [prn, p4a, pce, p4s, p4g, Int.add_assoc]
  try grind
theorem pIni_16 : pIni 16 = (0, 0, 0, 0) := by decide +kernel
theorem pRes_16 (w : Int) : pRes 16 w = if pSl 0 7 w = 35 ∧ pSl 12 3 w = 1 then some (0, pSl 15 5 w, pSl 20 5 w, pSl 7 5 w + pSl 25 7 w * 32) else none := by
  unfold pRes
  rw [pIni_16, show pKr 16 = [(7, 0, 35), (5, 400, 0), (3, 0, 1), (5, 200, 0), (5, 300, 0), (7, 405, 0)] from rfl]
  simp [prn, p4a, pce, p4s, p4g, Int.add_assoc]
  try grind
theorem pIni_17 : pIni 17 = (0, 0, 0, 0) := by decide +kernel
theorem pRes_17 (w : Int) : pRes 17 w = if pSl 0 7 w = 35 ∧ pSl 12 3 w = 2 then some (0, pSl 15 5 w, pSl 20 5 w, pSl 7 5 w + pSl 25 7 w * 32) else none := by
  unfold pRes
  rw [pIni_17, show pKr 17 = [(7, 0, 35), (5, 400, 0), (3, 0, 2), (5, 200, 0), (5, 300, 0), (7, 405, 0)] from rfl]
  simp [prn, p4a, pce, p4s, p4g, Int.add_assoc]
  try grind
theorem pIni_18 : pIni 18 = (0, 0, 0, 0) := by decide +kernel
theorem pRes_18 (w : Int) : pRes 18 w = if pSl 0 7 w = 19 ∧ pSl 12 3 w = 0 then some (pSl 7 5 w, pSl 15 5 w, 0, pSl 20 12 w) else none := by
  unfold pRes
  rw [pIni_18, show pKr 18 = [(7, 0, 19), (5, 100, 0), (3, 0, 0), (5, 200, 0), (12, 400, 0)] from rfl]
  simp [prn, p4a, pce, p4s, p4g, Int.add_assoc]
  try grind
theorem pIni_19 : pIni 19 = (0, 0, 0, 0) := by decide +kernel
theorem pRes_19 (w : Int) : pRes 19 w = if pSl 0 7 w = 19 ∧ pSl 12 3 w = 2 then some (pSl 7 5 w, pSl 15 5 w, 0, pSl 20 12 w) else none := by
  unfold pRes
  rw [pIni_19, show pKr 19 = [(7, 0, 19), (5, 100, 0), (3, 0, 2), (5, 200, 0), (12, 400, 0)] from rfl]
  simp [prn, p4a, pce, p4s, p4g, Int.add_assoc]
  try grind
theorem pIni_20 : pIni 20 = (0, 0, 0, 0) := by decide +kernel
theorem pRes_20 (w : Int) : pRes 20 w = if pSl 0 7 w = 19 ∧ pSl 12 3 w = 3 then some (pSl 7 5 w, pSl 15 5 w, 0, pSl 20 12 w) else none := by
  unfold pRes
  rw [pIni_20, show pKr 20 = [(7, 0, 19), (5, 100, 0), (3, 0, 3), (5, 200, 0), (12, 400, 0)] from rfl]
  simp [prn, p4a, pce, p4s, p4g, Int.add_assoc]
  try grind
theorem pIni_21 : pIni 21 = (0, 0, 0, 0) := by decide +kernel
theorem pRes_21 (w : Int) : pRes 21 w = if pSl 0 7 w = 19 ∧ pSl 12 3 w = 4 then some (pSl 7 5 w, pSl 15 5 w, 0, pSl 20 12 w) else none := by
  unfold pRes
  rw [pIni_21, show pKr 21 = [(7, 0, 19), (5, 100, 0), (3, 0, 4), (5, 200, 0), (12, 400, 0)] from rfl]
  simp [prn, p4a, pce, p4s, p4g, Int.add_assoc]
  try grind
theorem pIni_22 : pIni 22 = (0, 0, 0, 0) := by decide +kernel
theorem pRes_22 (w : Int) : pRes 22 w = if pSl 0 7 w = 19 ∧ pSl 12 3 w = 6 then some (pSl 7 5 w, pSl 15 5 w, 0, pSl 20 12 w) else none := by
  unfold pRes
  rw [pIni_22, show pKr 22 = [(7, 0, 19), (5, 100, 0), (3, 0, 6), (5, 200, 0), (12, 400, 0)] from rfl]
  simp [prn, p4a, pce, p4s, p4g, Int.add_assoc]
  try grind
theorem pIni_23 : pIni 23 = (0, 0, 0, 0) := by decide +kernel
theorem pRes_23 (w : Int) : pRes 23 w = if pSl 0 7 w = 19 ∧ pSl 12 3 w = 7 then some (pSl 7 5 w, pSl 15 5 w, 0, pSl 20 12 w) else none := by
  unfold pRes
  rw [pIni_23, show pKr 23 = [(7, 0, 19), (5, 100, 0), (3, 0, 7), (5, 200, 0), (12, 400, 0)] from rfl]
  simp [prn, p4a, pce, p4s, p4g, Int.add_assoc]
  try grind
theorem pIni_24 : pIni 24 = (0, 0, 0, 0) := by decide +kernel
theorem pRes_24 (w : Int) : pRes 24 w = if pSl 0 7 w = 19 ∧ pSl 12 3 w = 1 ∧ pSl 25 7 w = 0 then some (pSl 7 5 w, pSl 15 5 w, 0, pSl 20 5 w) else none := by
  unfold pRes
  rw [pIni_24, show pKr 24 = [(7, 0, 19), (5, 100, 0), (3, 0, 1), (5, 200, 0), (5, 400, 0), (7, 0, 0)] from rfl]
  simp [prn, p4a, pce, p4s, p4g, Int.add_assoc]
  try grind
theorem pIni_25 : pIni 25 = (0, 0, 0, 0) := by decide +kernel
theorem pRes_25 (w : Int) : pRes 25 w = if pSl 0 7 w = 19 ∧ pSl 12 3 w = 5 ∧ pSl 25 7 w = 0 then some (pSl 7 5 w, pSl 15 5 w, 0, pSl 20 5 w) else none := by
  unfold pRes
  rw [pIni_25, show pKr 25 = [(7, 0, 19), (5, 100, 0), (3, 0, 5), (5, 200, 0), (5, 400, 0), (7, 0, 0)] from rfl]
  simp [prn, p4a, pce, p4s, p4g, Int.add_assoc]
  try grind
theorem pIni_26 : pIni 26 = (0, 0, 0, 0) := by decide +kernel
theorem pRes_26 (w : Int) : pRes 26 w = if pSl 0 7 w = 19 ∧ pSl 12 3 w = 5 ∧ pSl 25 7 w = 32 then some (pSl 7 5 w, pSl 15 5 w, 0, pSl 20 5 w) else none := by
  unfold pRes
  rw [pIni_26, show pKr 26 = [(7, 0, 19), (5, 100, 0), (3, 0, 5), (5, 200, 0), (5, 400, 0), (7, 0, 32)] from rfl]
  simp [prn, p4a, pce, p4s, p4g, Int.add_assoc]
  try grind
theorem pIni_27 : pIni 27 = (0, 0, 0, 0) := by decide +kernel
theorem pRes_27 (w : Int) : pRes 27 w = if pSl 0 7 w = 51 ∧ pSl 12 3 w = 0 ∧ pSl 25 7 w = 0 then some (pSl 7 5 w, pSl 15 5 w, pSl 20 5 w, 0) else none := by
  unfold pRes
  rw [pIni_27, show pKr 27 = [(7, 0, 51), (5, 100, 0), (3, 0, 0), (5, 200, 0), (5, 300, 0), (7, 0, 0)] from rfl]
  simp [prn, p4a, pce, p4s, p4g, Int.add_assoc]
  try grind
theorem pIni_28 : pIni 28 = (0, 0, 0, 0) := by decide +kernel
theorem pRes_28 (w : Int) : pRes 28 w = if pSl 0 7 w = 51 ∧ pSl 12 3 w = 0 ∧ pSl 25 7 w = 32 then some (pSl 7 5 w, pSl 15 5 w, pSl 20 5 w, 0) else none := by
  unfold pRes
  rw [pIni_28, show pKr 28 = [(7, 0, 51), (5, 100, 0), (3, 0, 0), (5, 200, 0), (5, 300, 0), (7, 0, 32)] from rfl]
  simp [prn, p4a, pce, p4s, p4g, Int.add_assoc]
  try grind
theorem pIni_29 : pIni 29 = (0, 0, 0, 0) := by decide +kernel
theorem pRes_29 (w : Int) : pRes 29 w = if pSl 0 7 w = 51 ∧ pSl 12 3 w = 1 ∧ pSl 25 7 w = 0 then some (pSl 7 5 w, pSl 15 5 w, pSl 20 5 w, 0) else none := by
  unfold pRes
  rw [pIni_29, show pKr 29 = [(7, 0, 51), (5, 100, 0), (3, 0, 1), (5, 200, 0), (5, 300, 0), (7, 0, 0)] from rfl]
  simp [prn, p4a, pce, p4s, p4g, Int.add_assoc]
  try grind
theorem pIni_30 : pIni 30 = (0, 0, 0, 0) := by decide +kernel
theorem pRes_30 (w : Int) : pRes 30 w = if pSl 0 7 w = 51 ∧ pSl 12 3 w = 2 ∧ pSl 25 7 w = 0 then some (pSl 7 5 w, pSl 15 5 w, pSl 20 5 w, 0) else none := by
  unfold pRes
  rw [pIni_30, show pKr 30 = [(7, 0, 51), (5, 100, 0), (3, 0, 2), (5, 200, 0), (5, 300, 0), (7, 0, 0)] from rfl]
  simp [prn, p4a, pce, p4s, p4g, Int.add_assoc]
  try grind
theorem pIni_31 : pIni 31 = (0, 0, 0, 0) := by decide +kernel
theorem pRes_31 (w : Int) : pRes 31 w = if pSl 0 7 w = 51 ∧ pSl 12 3 w = 3 ∧ pSl 25 7 w = 0 then some (pSl 7 5 w, pSl 15 5 w, pSl 20 5 w, 0) else none := by
  unfold pRes
  rw [pIni_31, show pKr 31 = [(7, 0, 51), (5, 100, 0), (3, 0, 3), (5, 200, 0), (5, 300, 0), (7, 0, 0)] from rfl]
  simp [prn, p4a, pce, p4s, p4g, Int.add_assoc]
  try grind
theorem pIni_32 : pIni 32 = (0, 0, 0, 0) := by decide +kernel
theorem pRes_32 (w : Int) : pRes 32 w = if pSl 0 7 w = 51 ∧ pSl 12 3 w = 4 ∧ pSl 25 7 w = 0 then some (pSl 7 5 w, pSl 15 5 w, pSl 20 5 w, 0) else none := by
  unfold pRes
  rw [pIni_32, show pKr 32 = [(7, 0, 51), (5, 100, 0), (3, 0, 4), (5, 200, 0), (5, 300, 0), (7, 0, 0)] from rfl]
  simp [prn, p4a, pce, p4s, p4g, Int.add_assoc]
  try grind
theorem pIni_33 : pIni 33 = (0, 0, 0, 0) := by decide +kernel
theorem pRes_33 (w : Int) : pRes 33 w = if pSl 0 7 w = 51 ∧ pSl 12 3 w = 5 ∧ pSl 25 7 w = 0 then some (pSl 7 5 w, pSl 15 5 w, pSl 20 5 w, 0) else none := by
  unfold pRes
  rw [pIni_33, show pKr 33 = [(7, 0, 51), (5, 100, 0), (3, 0, 5), (5, 200, 0), (5, 300, 0), (7, 0, 0)] from rfl]
  simp [prn, p4a, pce, p4s, p4g, Int.add_assoc]
  try grind
theorem pIni_34 : pIni 34 = (0, 0, 0, 0) := by decide +kernel
theorem pRes_34 (w : Int) : pRes 34 w = if pSl 0 7 w = 51 ∧ pSl 12 3 w = 5 ∧ pSl 25 7 w = 32 then some (pSl 7 5 w, pSl 15 5 w, pSl 20 5 w, 0) else none := by
  unfold pRes
  rw [pIni_34, show pKr 34 = [(7, 0, 51), (5, 100, 0), (3, 0, 5), (5, 200, 0), (5, 300, 0), (7, 0, 32)] from rfl]
  simp [prn, p4a, pce, p4s, p4g, Int.add_assoc]
  try grind
theorem pIni_35 : pIni 35 = (0, 0, 0, 0) := by decide +kernel
theorem pRes_35 (w : Int) : pRes 35 w = if pSl 0 7 w = 51 ∧ pSl 12 3 w = 6 ∧ pSl 25 7 w = 0 then some (pSl 7 5 w, pSl 15 5 w, pSl 20 5 w, 0) else none := by
  unfold pRes
  rw [pIni_35, show pKr 35 = [(7, 0, 51), (5, 100, 0), (3, 0, 6), (5, 200, 0), (5, 300, 0), (7, 0, 0)] from rfl]
  simp [prn, p4a, pce, p4s, p4g, Int.add_assoc]
  try grind
theorem pIni_36 : pIni 36 = (0, 0, 0, 0) := by decide +kernel
theorem pRes_36 (w : Int) : pRes 36 w = if pSl 0 7 w = 51 ∧ pSl 12 3 w = 7 ∧ pSl 25 7 w = 0 then some (pSl 7 5 w, pSl 15 5 w, pSl 20 5 w, 0) else none := by
  unfold pRes
  rw [pIni_36, show pKr 36 = [(7, 0, 51), (5, 100, 0), (3, 0, 7), (5, 200, 0), (5, 300, 0), (7, 0, 0)] from rfl]
  simp [prn, p4a, pce, p4s, p4g, Int.add_assoc]
  try grind
theorem pIni_37 : pIni 37 = (0, 0, 0, 0) := by decide +kernel
theorem pRes_37 (w : Int) : pRes 37 w = if pSl 0 7 w = 51 ∧ pSl 12 3 w = 0 ∧ pSl 25 7 w = 1 then some (pSl 7 5 w, pSl 15 5 w, pSl 20 5 w, 0) else none := by
  unfold pRes
  rw [pIni_37, show pKr 37 = [(7, 0, 51), (5, 100, 0), (3, 0, 0), (5, 200, 0), (5, 300, 0), (7, 0, 1)] from rfl]
  simp [prn, p4a, pce, p4s, p4g, Int.add_assoc]
  try grind
theorem pIni_38 : pIni 38 = (0, 0, 0, 0) := by decide +kernel
theorem pRes_38 (w : Int) : pRes 38 w = if pSl 0 7 w = 51 ∧ pSl 12 3 w = 1 ∧ pSl 25 7 w = 1 then some (pSl 7 5 w, pSl 15 5 w, pSl 20 5 w, 0) else none := by
  unfold pRes
  rw [pIni_38, show pKr 38 = [(7, 0, 51), (5, 100, 0), (3, 0, 1), (5, 200, 0), (5, 300, 0), (7, 0, 1)] from rfl]
  simp [prn, p4a, pce, p4s, p4g, Int.add_assoc]
  try grind
theorem pIni_39 : pIni 39 = (0, 0, 0, 0) := by decide +kernel
theorem pRes_39 (w : Int) : pRes 39 w = if pSl 0 7 w = 51 ∧ pSl 12 3 w = 2 ∧ pSl 25 7 w = 1 then some (pSl 7 5 w, pSl 15 5 w, pSl 20 5 w, 0) else none := by
  unfold pRes
  rw [pIni_39, show pKr 39 = [(7, 0, 51), (5, 100, 0), (3, 0, 2), (5, 200, 0), (5, 300, 0), (7, 0, 1)] from rfl]
  simp [prn, p4a, pce, p4s, p4g, Int.add_assoc]
  try grind
theorem pIni_40 : pIni 40 = (0, 0, 0, 0) := by decide +kernel
theorem pRes_40 (w : Int) : pRes 40 w = if pSl 0 7 w = 51 ∧ pSl 12 3 w = 3 ∧ pSl 25 7 w = 1 then some (pSl 7 5 w, pSl 15 5 w, pSl 20 5 w, 0) else none := by
  unfold pRes
  rw [pIni_40, show pKr 40 = [(7, 0, 51), (5, 100, 0), (3, 0, 3), (5, 200, 0), (5, 300, 0), (7, 0, 1)] from rfl]
  simp [prn, p4a, pce, p4s, p4g, Int.add_assoc]
  try grind
theorem pIni_41 : pIni 41 = (0, 0, 0, 0) := by decide +kernel
theorem pRes_41 (w : Int) : pRes 41 w = if pSl 0 7 w = 51 ∧ pSl 12 3 w = 4 ∧ pSl 25 7 w = 1 then some (pSl 7 5 w, pSl 15 5 w, pSl 20 5 w, 0) else none := by
  unfold pRes
  rw [pIni_41, show pKr 41 = [(7, 0, 51), (5, 100, 0), (3, 0, 4), (5, 200, 0), (5, 300, 0), (7, 0, 1)] from rfl]
  simp [prn, p4a, pce, p4s, p4g, Int.add_assoc]
  try grind
theorem pIni_42 : pIni 42 = (0, 0, 0, 0) := by decide +kernel
theorem pRes_42 (w : Int) : pRes 42 w = if pSl 0 7 w = 51 ∧ pSl 12 3 w = 5 ∧ pSl 25 7 w = 1 then some (pSl 7 5 w, pSl 15 5 w, pSl 20 5 w, 0) else none := by
  unfold pRes
  rw [pIni_42, show pKr 42 = [(7, 0, 51), (5, 100, 0), (3, 0, 5), (5, 200, 0), (5, 300, 0), (7, 0, 1)] from rfl]
  simp [prn, p4a, pce, p4s, p4g, Int.add_assoc]
  try grind
theorem pIni_43 : pIni 43 = (0, 0, 0, 0) := by decide +kernel
theorem pRes_43 (w : Int) : pRes 43 w = if pSl 0 7 w = 51 ∧ pSl 12 3 w = 6 ∧ pSl 25 7 w = 1 then some (pSl 7 5 w, pSl 15 5 w, pSl 20 5 w, 0) else none := by
  unfold pRes
  rw [pIni_43, show pKr 43 = [(7, 0, 51), (5, 100, 0), (3, 0, 6), (5, 200, 0), (5, 300, 0), (7, 0, 1)] from rfl]
  simp [prn, p4a, pce, p4s, p4g, Int.add_assoc]
  try grind
theorem pIni_44 : pIni 44 = (0, 0, 0, 0) := by decide +kernel
theorem pRes_44 (w : Int) : pRes 44 w = if pSl 0 7 w = 51 ∧ pSl 12 3 w = 7 ∧ pSl 25 7 w = 1 then some (pSl 7 5 w, pSl 15 5 w, pSl 20 5 w, 0) else none := by
  unfold pRes
  rw [pIni_44, show pKr 44 = [(7, 0, 51), (5, 100, 0), (3, 0, 7), (5, 200, 0), (5, 300, 0), (7, 0, 1)] from rfl]
  simp [prn, p4a, pce, p4s, p4g, Int.add_assoc]
  try grind
theorem pIni_45 : pIni 45 = (0, 0, 0, 0) := by decide +kernel
theorem pRes_45 (w : Int) : pRes 45 w = if pSl 0 32 w = 267386895 then some (0, 0, 0, 0) else none := by
  unfold pRes
  rw [pIni_45, show pKr 45 = [(32, 0, 267386895)] from rfl]
  simp [prn, p4a, pce, p4s, p4g, Int.add_assoc]
  try grind
theorem pIni_46 : pIni 46 = (0, 0, 0, 0) := by decide +kernel
theorem pRes_46 (w : Int) : pRes 46 w = if pSl 0 32 w = 115 then some (0, 0, 0, 0) else none := by
  unfold pRes
  rw [pIni_46, show pKr 46 = [(32, 0, 115)] from rfl]
  simp [prn, p4a, pce, p4s, p4g, Int.add_assoc]
  try grind
theorem pIni_47 : pIni 47 = (0, 0, 0, 0) := by decide +kernel
theorem pRes_47 (w : Int) : pRes 47 w = if pSl 0 32 w = 1048691 then some (0, 0, 0, 0) else none := by
  unfold pRes
  rw [pIni_47, show pKr 47 = [(32, 0, 1048691)] from rfl]
  simp [prn, p4a, pce, p4s, p4g, Int.add_assoc]
  try grind
theorem pIni_48 : pIni 48 = (8, 0, 0, 0) := by decide +kernel
theorem pRes_48 (w : Int) : pRes 48 w = if pSl 0 2 w = 0 ∧ pSl 13 3 w = 0 then some (8 + pSl 2 3 w, 0, 0, pSl 5 1 w * 8 + pSl 6 1 w * 4 + pSl 7 4 w * 64 + pSl 11 2 w * 16) else none := by
  unfold pRes
  rw [pIni_48, show pKr 48 = [(2, 0, 0), (3, 500, 0), (1, 403, 0), (1, 402, 0), (4, 406, 0), (2, 404, 0), (3, 0, 0)] from rfl]
  simp [prn, p4a, pce, p4s, p4g, Int.add_assoc]
  try grind
theorem pIni_49 : pIni 49 = (8, 8, 0, 0) := by decide +kernel
theorem pRes_49 (w : Int) : pRes 49 w = if pSl 0 2 w = 0 ∧ pSl 13 3 w = 2 then some (8 + pSl 2 3 w, 8 + pSl 7 3 w, 0, pSl 5 1 w * 64 + pSl 6 1 w * 4 + pSl 10 3 w * 8) else none := by
  unfold pRes
  rw [pIni_49, show pKr 49 = [(2, 0, 0), (3, 500, 0), (1, 406, 0), (1, 402, 0), (3, 600, 0), (3, 403, 0), (3, 0, 2)] from rfl]
  simp [prn, p4a, pce, p4s, p4g, Int.add_assoc]
  try grind
theorem pIni_50 : pIni 50 = (0, 8, 8, 0) := by decide +kernel
theorem pRes_50 (w : Int) : pRes 50 w = if pSl 0 2 w = 0 ∧ pSl 13 3 w = 6 then some (0, 8 + pSl 7 3 w, 8 + pSl 2 3 w, pSl 5 1 w * 64 + pSl 6 1 w * 4 + pSl 10 3 w * 8) else none := by
  unfold pRes
  rw [pIni_50, show pKr 50 = [(2, 0, 0), (3, 700, 0), (1, 406, 0), (1, 402, 0), (3, 600, 0), (3, 403, 0), (3, 0, 6)] from rfl]
  simp [prn, p4a, pce, p4s, p4g, Int.add_assoc]
  try grind
theorem pIni_51 : pIni 51 = (0, 0, 0, 0) := by decide +kernel
theorem pRes_51 (w : Int) : pRes 51 w = if pSl 0 16 w = 1 then some (0, 0, 0, 0) else none := by
  unfold pRes
  rw [pIni_51, show pKr 51 = [(16, 0, 1)] from rfl]
  simp [prn, p4a, pce, p4s, p4g, Int.add_assoc]
  try grind
theorem pIni_52 : pIni 52 = (0, 0, 0, 0) := by decide +kernel
theorem pRes_52 (w : Int) : pRes 52 w = if pSl 0 2 w = 1 ∧ pSl 13 3 w = 0 then some (pSl 7 5 w, 0, 0, pSl 2 5 w + pSl 12 1 w * 32) else none := by
  unfold pRes
  rw [pIni_52, show pKr 52 = [(2, 0, 1), (5, 400, 0), (5, 100, 0), (1, 405, 0), (3, 0, 0)] from rfl]
  simp [prn, p4a, pce, p4s, p4g, Int.add_assoc]
  try grind
theorem pIni_53 : pIni 53 = (0, 0, 0, 0) := by decide +kernel
theorem pRes_53 (w : Int) : pRes 53 w = if pSl 0 2 w = 1 ∧ pSl 13 3 w = 1 then some (0, 0, 0, pSl 2 1 w * 32 + pSl 3 3 w * 2 + pSl 6 1 w * 128 + pSl 7 1 w * 64 + pSl 8 1 w * 1024 + pSl 9 2 w * 256 + pSl 11 1 w * 16 + pSl 12 1 w * 2048) else none := by
  unfold pRes
  rw [pIni_53, show pKr 53 = [(2, 0, 1), (1, 405, 0), (3, 401, 0), (1, 407, 0), (1, 406, 0), (1, 410, 0), (2, 408, 0), (1, 404, 0), (1, 411, 0), (3, 0, 1)] from rfl]
  simp [prn, p4a, pce, p4s, p4g, Int.add_assoc]
  try grind
theorem pIni_54 : pIni 54 = (0, 0, 0, 0) := by decide +kernel
theorem pRes_54 (w : Int) : pRes 54 w = if pSl 0 2 w = 1 ∧ pSl 13 3 w = 2 then some (pSl 7 5 w, 0, 0, pSl 2 5 w + pSl 12 1 w * 32) else none := by
  unfold pRes
  rw [pIni_54, show pKr 54 = [(2, 0, 1), (5, 400, 0), (5, 100, 0), (1, 405, 0), (3, 0, 2)] from rfl]
  simp [prn, p4a, pce, p4s, p4g, Int.add_assoc]
  try grind
theorem pIni_55 : pIni 55 = (0, 0, 0, 0) := by decide +kernel
theorem pRes_55 (w : Int) : pRes 55 w = if pSl 0 2 w = 1 ∧ pSl 7 5 w = 2 ∧ pSl 13 3 w = 3 then some (0, 0, 0, pSl 2 1 w * 32 + pSl 3 2 w * 128 + pSl 5 1 w * 64 + pSl 6 1 w * 16 + pSl 12 1 w * 512) else none := by
  unfold pRes
  rw [pIni_55, show pKr 55 = [(2, 0, 1), (1, 405, 0), (2, 407, 0), (1, 406, 0), (1, 404, 0), (5, 0, 2), (1, 409, 0), (3, 0, 3)] from rfl]
  simp [prn, p4a, pce, p4s, p4g, Int.add_assoc]
  try grind
theorem pIni_56 : pIni 56 = (0, 0, 0, 0) := by decide +kernel
theorem pRes_56 (w : Int) : pRes 56 w = if pSl 0 2 w = 1 ∧ pSl 13 3 w = 3 then some (pSl 7 5 w, 0, 0, pSl 2 5 w + pSl 12 1 w * 32) else none := by
  unfold pRes
  rw [pIni_56, show pKr 56 = [(2, 0, 1), (5, 400, 0), (5, 100, 0), (1, 405, 0), (3, 0, 3)] from rfl]
  simp [prn, p4a, pce, p4s, p4g, Int.add_assoc]
  try grind
theorem pIni_57 : pIni 57 = (8, 0, 0, 0) := by decide +kernel
theorem pRes_57 (w : Int) : pRes 57 w = if pSl 0 2 w = 1 ∧ pSl 10 6 w = 32 then some (8 + pSl 7 3 w, 0, 0, pSl 2 5 w) else none := by
  unfold pRes
  rw [pIni_57, show pKr 57 = [(2, 0, 1), (5, 400, 0), (3, 500, 0), (6, 0, 32)] from rfl]
  simp [prn, p4a, pce, p4s, p4g, Int.add_assoc]
  try grind
theorem pIni_58 : pIni 58 = (8, 0, 0, 0) := by decide +kernel
theorem pRes_58 (w : Int) : pRes 58 w = if pSl 0 2 w = 1 ∧ pSl 10 6 w = 33 then some (8 + pSl 7 3 w, 0, 0, pSl 2 5 w) else none := by
  unfold pRes
  rw [pIni_58, show pKr 58 = [(2, 0, 1), (5, 400, 0), (3, 500, 0), (6, 0, 33)] from rfl]
  simp [prn, p4a, pce, p4s, p4g, Int.add_assoc]
  try grind
theorem pIni_59 : pIni 59 = (8, 0, 0, 0) := by decide +kernel
theorem pRes_59 (w : Int) : pRes 59 w = if pSl 0 2 w = 1 ∧ pSl 10 2 w = 2 ∧ pSl 13 3 w = 4 then some (8 + pSl 7 3 w, 0, 0, pSl 2 5 w + pSl 12 1 w * 32) else none := by
  unfold pRes
  rw [pIni_59, show pKr 59 = [(2, 0, 1), (5, 400, 0), (3, 500, 0), (2, 0, 2), (1, 405, 0), (3, 0, 4)] from rfl]
  simp [prn, p4a, pce, p4s, p4g, Int.add_assoc]
  try grind
theorem pIni_60 : pIni 60 = (8, 0, 8, 0) := by decide +kernel
theorem pRes_60 (w : Int) : pRes 60 w = if pSl 0 2 w = 1 ∧ pSl 5 2 w = 0 ∧ pSl 10 6 w = 35 then some (8 + pSl 7 3 w, 0, 8 + pSl 2 3 w, 0) else none := by
  unfold pRes
  rw [pIni_60, show pKr 60 = [(2, 0, 1), (3, 700, 0), (2, 0, 0), (3, 500, 0), (6, 0, 35)] from rfl]
  simp [prn, p4a, pce, p4s, p4g, Int.add_assoc]
  try grind
theorem pIni_61 : pIni 61 = (8, 0, 8, 0) := by decide +kernel
theorem pRes_61 (w : Int) : pRes 61 w = if pSl 0 2 w = 1 ∧ pSl 5 2 w = 1 ∧ pSl 10 6 w = 35 then some (8 + pSl 7 3 w, 0, 8 + pSl 2 3 w, 0) else none := by
  unfold pRes
  rw [pIni_61, show pKr 61 = [(2, 0, 1), (3, 700, 0), (2, 0, 1), (3, 500, 0), (6, 0, 35)] from rfl]
  simp [prn, p4a, pce, p4s, p4g, Int.add_assoc]
  try grind
theorem pIni_62 : pIni 62 = (8, 0, 8, 0) := by decide +kernel
theorem pRes_62 (w : Int) : pRes 62 w = if pSl 0 2 w = 1 ∧ pSl 5 2 w = 2 ∧ pSl 10 6 w = 35 then some (8 + pSl 7 3 w, 0, 8 + pSl 2 3 w, 0) else none := by
  unfold pRes
  rw [pIni_62, show pKr 62 = [(2, 0, 1), (3, 700, 0), (2, 0, 2), (3, 500, 0), (6, 0, 35)] from rfl]
  simp [prn, p4a, pce, p4s, p4g, Int.add_assoc]
  try grind
theorem pIni_63 : pIni 63 = (8, 0, 8, 0) := by decide +kernel
theorem pRes_63 (w : Int) : pRes 63 w = if pSl 0 2 w = 1 ∧ pSl 5 2 w = 3 ∧ pSl 10 6 w = 35 then some (8 + pSl 7 3 w, 0, 8 + pSl 2 3 w, 0) else none := by
  unfold pRes
  rw [pIni_63, show pKr 63 = [(2, 0, 1), (3, 700, 0), (2, 0, 3), (3, 500, 0), (6, 0, 35)] from rfl]
  simp [prn, p4a, pce, p4s, p4g, Int.add_assoc]
  try grind
theorem pIni_64 : pIni 64 = (0, 0, 0, 0) := by decide +kernel
theorem pRes_64 (w : Int) : pRes 64 w = if pSl 0 2 w = 1 ∧ pSl 13 3 w = 5 then some (0, 0, 0, pSl 2 1 w * 32 + pSl 3 3 w * 2 + pSl 6 1 w * 128 + pSl 7 1 w * 64 + pSl 8 1 w * 1024 + pSl 9 2 w * 256 + pSl 11 1 w * 16 + pSl 12 1 w * 2048) else none := by
  unfold pRes
  rw [pIni_64, show pKr 64 = [(2, 0, 1), (1, 405, 0), (3, 401, 0), (1, 407, 0), (1, 406, 0), (1, 410, 0), (2, 408, 0), (1, 404, 0), (1, 411, 0), (3, 0, 5)] from rfl]
  simp [prn, p4a, pce, p4s, p4g, Int.add_assoc]
  try grind
theorem pIni_65 : pIni 65 = (0, 8, 0, 0) := by decide +kernel
theorem pRes_65 (w : Int) : pRes 65 w = if pSl 0 2 w = 1 ∧ pSl 13 3 w = 6 then some (0, 8 + pSl 7 3 w, 0, pSl 2 1 w * 32 + pSl 3 2 w * 2 + pSl 5 2 w * 64 + pSl 10 2 w * 8 + pSl 12 1 w * 256) else none := by
  unfold pRes
  rw [pIni_65, show pKr 65 = [(2, 0, 1), (1, 405, 0), (2, 401, 0), (2, 406, 0), (3, 600, 0), (2, 403, 0), (1, 408, 0), (3, 0, 6)] from rfl]
  simp [prn, p4a, pce, p4s, p4g, Int.add_assoc]
  try grind
theorem pIni_66 : pIni 66 = (0, 8, 0, 0) := by decide +kernel
theorem pRes_66 (w : Int) : pRes 66 w = if pSl 0 2 w = 1 ∧ pSl 13 3 w = 7 then some (0, 8 + pSl 7 3 w, 0, pSl 2 1 w * 32 + pSl 3 2 w * 2 + pSl 5 2 w * 64 + pSl 10 2 w * 8 + pSl 12 1 w * 256) else none := by
  unfold pRes
  rw [pIni_66, show pKr 66 = [(2, 0, 1), (1, 405, 0), (2, 401, 0), (2, 406, 0), (3, 600, 0), (2, 403, 0), (1, 408, 0), (3, 0, 7)] from rfl]
  simp [prn, p4a, pce, p4s, p4g, Int.add_assoc]
  try grind
theorem pIni_67 : pIni 67 = (0, 0, 0, 0) := by decide +kernel
theorem pRes_67 (w : Int) : pRes 67 w = if pSl 0 2 w = 2 ∧ pSl 12 4 w = 0 then some (pSl 7 5 w, 0, 0, pSl 2 5 w) else none := by
  unfold pRes
  rw [pIni_67, show pKr 67 = [(2, 0, 2), (5, 400, 0), (5, 100, 0), (4, 0, 0)] from rfl]
  simp [prn, p4a, pce, p4s, p4g, Int.add_assoc]
  try grind
theorem pIni_68 : pIni 68 = (0, 0, 0, 0) := by decide +kernel
theorem pRes_68 (w : Int) : pRes 68 w = if pSl 0 2 w = 2 ∧ pSl 13 3 w = 2 then some (pSl 7 5 w, 0, 0, pSl 2 2 w * 64 + pSl 4 3 w * 4 + pSl 12 1 w * 32) else none := by
  unfold pRes
  rw [pIni_68, show pKr 68 = [(2, 0, 2), (2, 406, 0), (3, 402, 0), (5, 100, 0), (1, 405, 0), (3, 0, 2)] from rfl]
  simp [prn, p4a, pce, p4s, p4g, Int.add_assoc]
  try grind
theorem pIni_69 : pIni 69 = (0, 0, 0, 0) := by decide +kernel
theorem pRes_69 (w : Int) : pRes 69 w = if pSl 0 7 w = 2 ∧ pSl 12 4 w = 8 then some (0, pSl 7 5 w, 0, 0) else none := by
  unfold pRes
  rw [pIni_69, show pKr 69 = [(7, 0, 2), (5, 200, 0), (4, 0, 8)] from rfl]
  simp [prn, p4a, pce, p4s, p4g, Int.add_assoc]
  try grind
theorem pIni_70 : pIni 70 = (0, 0, 0, 0) := by decide +kernel
theorem pRes_70 (w : Int) : pRes 70 w = if pSl 0 2 w = 2 ∧ pSl 12 4 w = 8 then some (pSl 7 5 w, 0, pSl 2 5 w, 0) else none := by
  unfold pRes
  rw [pIni_70, show pKr 70 = [(2, 0, 2), (5, 300, 0), (5, 100, 0), (4, 0, 8)] from rfl]
  simp [prn, p4a, pce, p4s, p4g, Int.add_assoc]
  try grind
theorem pIni_71 : pIni 71 = (0, 0, 0, 0) := by decide +kernel
theorem pRes_71 (w : Int) : pRes 71 w = if pSl 0 16 w = 36866 then some (0, 0, 0, 0) else none := by
  unfold pRes
  rw [pIni_71, show pKr 71 = [(16, 0, 36866)] from rfl]
  simp [prn, p4a, pce, p4s, p4g, Int.add_assoc]
  try grind
theorem pIni_72 : pIni 72 = (0, 0, 0, 0) := by decide +kernel
theorem pRes_72 (w : Int) : pRes 72 w = if pSl 0 7 w = 2 ∧ pSl 12 4 w = 9 then some (0, pSl 7 5 w, 0, 0) else none := by
  unfold pRes
  rw [pIni_72, show pKr 72 = [(7, 0, 2), (5, 200, 0), (4, 0, 9)] from rfl]
  simp [prn, p4a, pce, p4s, p4g, Int.add_assoc]
  try grind
theorem pIni_73 : pIni 73 = (0, 0, 0, 0) := by decide +kernel
theorem pRes_73 (w : Int) : pRes 73 w = if pSl 0 2 w = 2 ∧ pSl 12 4 w = 9 then some (pSl 7 5 w, 0, pSl 2 5 w, 0) else none := by
  unfold pRes
  rw [pIni_73, show pKr 73 = [(2, 0, 2), (5, 300, 0), (5, 100, 0), (4, 0, 9)] from rfl]
  simp [prn, p4a, pce, p4s, p4g, Int.add_assoc]
  try grind
theorem pIni_74 : pIni 74 = (0, 0, 0, 0) := by decide +kernel
theorem pRes_74 (w : Int) : pRes 74 w = if pSl 0 2 w = 2 ∧ pSl 13 3 w = 6 then some (0, 0, pSl 2 5 w, pSl 7 2 w * 64 + pSl 9 4 w * 4) else none := by
  unfold pRes
  rw [pIni_74, show pKr 74 = [(2, 0, 2), (5, 300, 0), (2, 406, 0), (4, 402, 0), (3, 0, 6)] from rfl]
  simp [prn, p4a, pce, p4s, p4g, Int.add_assoc]
  try grind
end jKinds
