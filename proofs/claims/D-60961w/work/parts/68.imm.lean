/-! immediates; of each kind when a word is of it: printed by gen_kinds.py -/
set_option maxRecDepth 100000
section jKinds2

theorem pImm_0 (v : Int) : pImm 0 v = true ↔ 0 ≤ v ∧ v ≤ 1048575 ∧ v % 1 = 0 := by
  unfold pImm
  rw [decide_eq_true_iff, show ((0 : Nat) : Int) = 0 from rfl]
  have e : v_X43_isImmediate 0 v = if ¬ v < 0 ∧ ¬ 1048575 < v ∧ L_rem v 1 = 0 then 1 else 0 := by unfold v_X43_isImmediate; simp
  rw [e]
  by_cases c : 0 ≤ v ∧ v ≤ 1048575
  · have q := L_rem_0 (v := v) (by omega) (y := 1) (by decide) (by decide)
    by_cases d : v % 1 = 0
    · rw [if_pos ⟨by omega, by omega, q.mpr d⟩]; exact ⟨fun _ => ⟨c.1, c.2, d⟩, fun _ => rfl⟩
    · rw [if_neg (fun z => d (q.mp z.2.2))]; exact ⟨fun z => absurd z (by decide), fun z => absurd z.2.2 d⟩
  · rw [if_neg (fun z => c ⟨by omega, by omega⟩)]; exact ⟨fun z => absurd z (by decide), fun z => absurd ⟨z.1, z.2.1⟩ c⟩
theorem pImm_1 (v : Int) : pImm 1 v = true ↔ 0 ≤ v ∧ v ≤ 1048575 ∧ v % 1 = 0 := by
  unfold pImm
  rw [decide_eq_true_iff, show ((1 : Nat) : Int) = 1 from rfl]
  have e : v_X43_isImmediate 1 v = if ¬ v < 0 ∧ ¬ 1048575 < v ∧ L_rem v 1 = 0 then 1 else 0 := by unfold v_X43_isImmediate; simp
  rw [e]
  by_cases c : 0 ≤ v ∧ v ≤ 1048575
  · have q := L_rem_0 (v := v) (by omega) (y := 1) (by decide) (by decide)
    by_cases d : v % 1 = 0
    · rw [if_pos ⟨by omega, by omega, q.mpr d⟩]; exact ⟨fun _ => ⟨c.1, c.2, d⟩, fun _ => rfl⟩
    · rw [if_neg (fun z => d (q.mp z.2.2))]; exact ⟨fun z => absurd z (by decide), fun z => absurd z.2.2 d⟩
  · rw [if_neg (fun z => c ⟨by omega, by omega⟩)]; exact ⟨fun z => absurd z (by decide), fun z => absurd ⟨z.1, z.2.1⟩ c⟩
theorem pImm_2 (v : Int) : pImm 2 v = true ↔ -1048576 ≤ v ∧ v ≤ 1048574 ∧ v % 2 = 0 := by
  unfold pImm
  rw [decide_eq_true_iff, show ((2 : Nat) : Int) = 2 from rfl]
  have e : v_X43_isImmediate 2 v = if ¬ v < (-1048576) ∧ ¬ 1048574 < v ∧ L_rem v 2 = 0 then 1 else 0 := by unfold v_X43_isImmediate; simp
  rw [e]
  by_cases c : -1048576 ≤ v ∧ v ≤ 1048574
  · have q := L_rem_0 (v := v) (by omega) (y := 2) (by decide) (by decide)
    by_cases d : v % 2 = 0
    · rw [if_pos ⟨by omega, by omega, q.mpr d⟩]; exact ⟨fun _ => ⟨c.1, c.2, d⟩, fun _ => rfl⟩
    · rw [if_neg (fun z => d (q.mp z.2.2))]; exact ⟨fun z => absurd z (by decide), fun z => absurd z.2.2 d⟩
  · rw [if_neg (fun z => c ⟨by omega, by omega⟩)]; exact ⟨fun z => absurd z (by decide), fun z => absurd ⟨z.1, z.2.1⟩ c⟩
theorem pImm_3 (v : Int) : pImm 3 v = true ↔ -2048 ≤ v ∧ v ≤ 2047 ∧ v % 1 = 0 := by
  unfold pImm
  rw [decide_eq_true_iff, show ((3 : Nat) : Int) = 3 from rfl]
  have e : v_X43_isImmediate 3 v = if ¬ v < (-2048) ∧ ¬ 2047 < v ∧ L_rem v 1 = 0 then 1 else 0 := by unfold v_X43_isImmediate; simp
  rw [e]
  by_cases c : -2048 ≤ v ∧ v ≤ 2047
  · have q := L_rem_0 (v := v) (by omega) (y := 1) (by decide) (by decide)
    by_cases d : v % 1 = 0
    · rw [if_pos ⟨by omega, by omega, q.mpr d⟩]; exact ⟨fun _ => ⟨c.1, c.2, d⟩, fun _ => rfl⟩
    · rw [if_neg (fun z => d (q.mp z.2.2))]; exact ⟨fun z => absurd z (by decide), fun z => absurd z.2.2 d⟩
  · rw [if_neg (fun z => c ⟨by omega, by omega⟩)]; exact ⟨fun z => absurd z (by decide), fun z => absurd ⟨z.1, z.2.1⟩ c⟩
theorem pImm_4 (v : Int) : pImm 4 v = true ↔ -4096 ≤ v ∧ v ≤ 4094 ∧ v % 2 = 0 := by
  unfold pImm
  rw [decide_eq_true_iff, show ((4 : Nat) : Int) = 4 from rfl]
  have e : v_X43_isImmediate 4 v = if ¬ v < (-4096) ∧ ¬ 4094 < v ∧ L_rem v 2 = 0 then 1 else 0 := by unfold v_X43_isImmediate; simp
  rw [e]
  by_cases c : -4096 ≤ v ∧ v ≤ 4094
  · have q := L_rem_0 (v := v) (by omega) (y := 2) (by decide) (by decide)
    by_cases d : v % 2 = 0
    · rw [if_pos ⟨by omega, by omega, q.mpr d⟩]; exact ⟨fun _ => ⟨c.1, c.2, d⟩, fun _ => rfl⟩
    · rw [if_neg (fun z => d (q.mp z.2.2))]; exact ⟨fun z => absurd z (by decide), fun z => absurd z.2.2 d⟩
  · rw [if_neg (fun z => c ⟨by omega, by omega⟩)]; exact ⟨fun z => absurd z (by decide), fun z => absurd ⟨z.1, z.2.1⟩ c⟩
theorem pImm_5 (v : Int) : pImm 5 v = true ↔ -4096 ≤ v ∧ v ≤ 4094 ∧ v % 2 = 0 := by
  unfold pImm
  rw [decide_eq_true_iff, show ((5 : Nat) : Int) = 5 from rfl]
  have e : v_X43_isImmediate 5 v = if ¬ v < (-4096) ∧ ¬ 4094 < v ∧ L_rem v 2 = 0 then 1 else 0 := by unfold v_X43_isImmediate; simp
  rw [e]
  by_cases c : -4096 ≤ v ∧ v ≤ 4094
  · have q := L_rem_0 (v := v) (by omega) (y := 2) (by decide) (by decide)
    by_cases d : v % 2 = 0
    · rw [if_pos ⟨by omega, by omega, q.mpr d⟩]; exact ⟨fun _ => ⟨c.1, c.2, d⟩, fun _ => rfl⟩
    · rw [if_neg (fun z => d (q.mp z.2.2))]; exact ⟨fun z => absurd z (by decide), fun z => absurd z.2.2 d⟩
  · rw [if_neg (fun z => c ⟨by omega, by omega⟩)]; exact ⟨fun z => absurd z (by decide), fun z => absurd ⟨z.1, z.2.1⟩ c⟩
theorem pImm_6 (v : Int) : pImm 6 v = true ↔ -4096 ≤ v ∧ v ≤ 4094 ∧ v % 2 = 0 := by
  unfold pImm
  rw [decide_eq_true_iff, show ((6 : Nat) : Int) = 6 from rfl]
  have e : v_X43_isImmediate 6 v = if ¬ v < (-4096) ∧ ¬ 4094 < v ∧ L_rem v 2 = 0 then 1 else 0 := by unfold v_X43_isImmediate; simp
  rw [e]
  by_cases c : -4096 ≤ v ∧ v ≤ 4094
  · have q := L_rem_0 (v := v) (by omega) (y := 2) (by decide) (by decide)
    by_cases d : v % 2 = 0
    · rw [if_pos ⟨by omega, by omega, q.mpr d⟩]; exact ⟨fun _ => ⟨c.1, c.2, d⟩, fun _ => rfl⟩
    · rw [if_neg (fun z => d (q.mp z.2.2))]; exact ⟨fun z => absurd z (by decide), fun z => absurd z.2.2 d⟩
  · rw [if_neg (fun z => c ⟨by omega, by omega⟩)]; exact ⟨fun z => absurd z (by decide), fun z => absurd ⟨z.1, z.2.1⟩ c⟩
theorem pImm_7 (v : Int) : pImm 7 v = true ↔ -4096 ≤ v ∧ v ≤ 4094 ∧ v % 2 = 0 := by
  unfold pImm
  rw [decide_eq_true_iff, show ((7 : Nat) : Int) = 7 from rfl]
  have e : v_X43_isImmediate 7 v = if ¬ v < (-4096) ∧ ¬ 4094 < v ∧ L_rem v 2 = 0 then 1 else 0 := by unfold v_X43_isImmediate; simp
  rw [e]
  by_cases c : -4096 ≤ v ∧ v ≤ 4094
  · have q := L_rem_0 (v := v) (by omega) (y := 2) (by decide) (by decide)
    by_cases d : v % 2 = 0
    · rw [if_pos ⟨by omega, by omega, q.mpr d⟩]; exact ⟨fun _ => ⟨c.1, c.2, d⟩, fun _ => rfl⟩
    · rw [if_neg (fun z => d (q.mp z.2.2))]; exact ⟨fun z => absurd z (by decide), fun z => absurd z.2.2 d⟩
  · rw [if_neg (fun z => c ⟨by omega, by omega⟩)]; exact ⟨fun z => absurd z (by decide), fun z => absurd ⟨z.1, z.2.1⟩ c⟩
theorem pImm_8 (v : Int) : pImm 8 v = true ↔ -4096 ≤ v ∧ v ≤ 4094 ∧ v % 2 = 0 := by
  unfold pImm
  rw [decide_eq_true_iff, show ((8 : Nat) : Int) = 8 from rfl]
  have e : v_X43_isImmediate 8 v = if ¬ v < (-4096) ∧ ¬ 4094 < v ∧ L_rem v 2 = 0 then 1 else 0 := by unfold v_X43_isImmediate; simp
  rw [e]
  by_cases c : -4096 ≤ v ∧ v ≤ 4094
  · have q := L_rem_0 (v := v) (by omega) (y := 2) (by decide) (by decide)
    by_cases d : v % 2 = 0
    · rw [if_pos ⟨by omega, by omega, q.mpr d⟩]; exact ⟨fun _ => ⟨c.1, c.2, d⟩, fun _ => rfl⟩
    · rw [if_neg (fun z => d (q.mp z.2.2))]; exact ⟨fun z => absurd z (by decide), fun z => absurd z.2.2 d⟩
  · rw [if_neg (fun z => c ⟨by omega, by omega⟩)]; exact ⟨fun z => absurd z (by decide), fun z => absurd ⟨z.1, z.2.1⟩ c⟩
theorem pImm_9 (v : Int) : pImm 9 v = true ↔ -4096 ≤ v ∧ v ≤ 4094 ∧ v % 2 = 0 := by
  unfold pImm
  rw [decide_eq_true_iff, show ((9 : Nat) : Int) = 9 from rfl]
  have e : v_X43_isImmediate 9 v = if ¬ v < (-4096) ∧ ¬ 4094 < v ∧ L_rem v 2 = 0 then 1 else 0 := by unfold v_X43_isImmediate; simp
  rw [e]
  by_cases c : -4096 ≤ v ∧ v ≤ 4094
  · have q := L_rem_0 (v := v) (by omega) (y := 2) (by decide) (by decide)
    by_cases d : v % 2 = 0
    · rw [if_pos ⟨by omega, by omega, q.mpr d⟩]; exact ⟨fun _ => ⟨c.1, c.2, d⟩, fun _ => rfl⟩
    · rw [if_neg (fun z => d (q.mp z.2.2))]; exact ⟨fun z => absurd z (by decide), fun z => absurd z.2.2 d⟩
  · rw [if_neg (fun z => c ⟨by omega, by omega⟩)]; exact ⟨fun z => absurd z (by decide), fun z => absurd ⟨z.1, z.2.1⟩ c⟩
theorem pImm_10 (v : Int) : pImm 10 v = true ↔ -2048 ≤ v ∧ v ≤ 2047 ∧ v % 1 = 0 := by
  unfold pImm
  rw [decide_eq_true_iff, show ((10 : Nat) : Int) = 10 from rfl]
  have e : v_X43_isImmediate 10 v = if ¬ v < (-2048) ∧ ¬ 2047 < v ∧ L_rem v 1 = 0 then 1 else 0 := by unfold v_X43_isImmediate; simp
  rw [e]
  by_cases c : -2048 ≤ v ∧ v ≤ 2047
  · have q := L_rem_0 (v := v) (by omega) (y := 1) (by decide) (by decide)
    by_cases d : v % 1 = 0
    · rw [if_pos ⟨by omega, by omega, q.mpr d⟩]; exact ⟨fun _ => ⟨c.1, c.2, d⟩, fun _ => rfl⟩
    · rw [if_neg (fun z => d (q.mp z.2.2))]; exact ⟨fun z => absurd z (by decide), fun z => absurd z.2.2 d⟩
  · rw [if_neg (fun z => c ⟨by omega, by omega⟩)]; exact ⟨fun z => absurd z (by decide), fun z => absurd ⟨z.1, z.2.1⟩ c⟩
theorem pImm_11 (v : Int) : pImm 11 v = true ↔ -2048 ≤ v ∧ v ≤ 2047 ∧ v % 1 = 0 := by
  unfold pImm
  rw [decide_eq_true_iff, show ((11 : Nat) : Int) = 11 from rfl]
  have e : v_X43_isImmediate 11 v = if ¬ v < (-2048) ∧ ¬ 2047 < v ∧ L_rem v 1 = 0 then 1 else 0 := by unfold v_X43_isImmediate; simp
  rw [e]
  by_cases c : -2048 ≤ v ∧ v ≤ 2047
  · have q := L_rem_0 (v := v) (by omega) (y := 1) (by decide) (by decide)
    by_cases d : v % 1 = 0
    · rw [if_pos ⟨by omega, by omega, q.mpr d⟩]; exact ⟨fun _ => ⟨c.1, c.2, d⟩, fun _ => rfl⟩
    · rw [if_neg (fun z => d (q.mp z.2.2))]; exact ⟨fun z => absurd z (by decide), fun z => absurd z.2.2 d⟩
  · rw [if_neg (fun z => c ⟨by omega, by omega⟩)]; exact ⟨fun z => absurd z (by decide), fun z => absurd ⟨z.1, z.2.1⟩ c⟩
theorem pImm_12 (v : Int) : pImm 12 v = true ↔ -2048 ≤ v ∧ v ≤ 2047 ∧ v % 1 = 0 := by
  unfold pImm
  rw [decide_eq_true_iff, show ((12 : Nat) : Int) = 12 from rfl]
  have e : v_X43_isImmediate 12 v = if ¬ v < (-2048) ∧ ¬ 2047 < v ∧ L_rem v 1 = 0 then 1 else 0 := by unfold v_X43_isImmediate; simp
  rw [e]
  by_cases c : -2048 ≤ v ∧ v ≤ 2047
  · have q := L_rem_0 (v := v) (by omega) (y := 1) (by decide) (by decide)
    by_cases d : v % 1 = 0
    · rw [if_pos ⟨by omega, by omega, q.mpr d⟩]; exact ⟨fun _ => ⟨c.1, c.2, d⟩, fun _ => rfl⟩
    · rw [if_neg (fun z => d (q.mp z.2.2))]; exact ⟨fun z => absurd z (by decide), fun z => absurd z.2.2 d⟩
  · rw [if_neg (fun z => c ⟨by omega, by omega⟩)]; exact ⟨fun z => absurd z (by decide), fun z => absurd ⟨z.1, z.2.1⟩ c⟩
theorem pImm_13 (v : Int) : pImm 13 v = true ↔ -2048 ≤ v ∧ v ≤ 2047 ∧ v % 1 = 0 := by
  unfold pImm
  rw [decide_eq_true_iff, show ((13 : Nat) : Int) = 13 from rfl]
  have e : v_X43_isImmediate 13 v = if ¬ v < (-2048) ∧ ¬ 2047 < v ∧ L_rem v 1 = 0 then 1 else 0 := by unfold v_X43_isImmediate; simp
  rw [e]
  by_cases c : -2048 ≤ v ∧ v ≤ 2047
  · have q := L_rem_0 (v := v) (by omega) (y := 1) (by decide) (by decide)
    by_cases d : v % 1 = 0
    · rw [if_pos ⟨by omega, by omega, q.mpr d⟩]; exact ⟨fun _ => ⟨c.1, c.2, d⟩, fun _ => rfl⟩
    · rw [if_neg (fun z => d (q.mp z.2.2))]; exact ⟨fun z => absurd z (by decide), fun z => absurd z.2.2 d⟩
  · rw [if_neg (fun z => c ⟨by omega, by omega⟩)]; exact ⟨fun z => absurd z (by decide), fun z => absurd ⟨z.1, z.2.1⟩ c⟩
theorem pImm_14 (v : Int) : pImm 14 v = true ↔ -2048 ≤ v ∧ v ≤ 2047 ∧ v % 1 = 0 := by
  unfold pImm
  rw [decide_eq_true_iff, show ((14 : Nat) : Int) = 14 from rfl]
  have e : v_X43_isImmediate 14 v = if ¬ v < (-2048) ∧ ¬ 2047 < v ∧ L_rem v 1 = 0 then 1 else 0 := by unfold v_X43_isImmediate; simp
  rw [e]
  by_cases c : -2048 ≤ v ∧ v ≤ 2047
  · have q := L_rem_0 (v := v) (by omega) (y := 1) (by decide) (by decide)
    by_cases d : v % 1 = 0
    · rw [if_pos ⟨by omega, by omega, q.mpr d⟩]; exact ⟨fun _ => ⟨c.1, c.2, d⟩, fun _ => rfl⟩
    · rw [if_neg (fun z => d (q.mp z.2.2))]; exact ⟨fun z => absurd z (by decide), fun z => absurd z.2.2 d⟩
  · rw [if_neg (fun z => c ⟨by omega, by omega⟩)]; exact ⟨fun z => absurd z (by decide), fun z => absurd ⟨z.1, z.2.1⟩ c⟩
theorem pImm_15 (v : Int) : pImm 15 v = true ↔ -2048 ≤ v ∧ v ≤ 2047 ∧ v % 1 = 0 := by
  unfold pImm
  rw [decide_eq_true_iff, show ((15 : Nat) : Int) = 15 from rfl]
  have e : v_X43_isImmediate 15 v = if ¬ v < (-2048) ∧ ¬ 2047 < v ∧ L_rem v 1 = 0 then 1 else 0 := by unfold v_X43_isImmediate; simp
  rw [e]
  by_cases c : -2048 ≤ v ∧ v ≤ 2047
  · have q := L_rem_0 (v := v) (by omega) (y := 1) (by decide) (by decide)
    by_cases d : v % 1 = 0
    · rw [if_pos ⟨by omega, by omega, q.mpr d⟩]; exact ⟨fun _ => ⟨c.1, c.2, d⟩, fun _ => rfl⟩
    · rw [if_neg (fun z => d (q.mp z.2.2))]; exact ⟨fun z => absurd z (by decide), fun z => absurd z.2.2 d⟩
  · rw [if_neg (fun z => c ⟨by omega, by omega⟩)]; exact ⟨fun z => absurd z (by decide), fun z => absurd ⟨z.1, z.2.1⟩ c⟩
theorem pImm_16 (v : Int) : pImm 16 v = true ↔ -2048 ≤ v ∧ v ≤ 2047 ∧ v % 1 = 0 := by
  unfold pImm
  rw [decide_eq_true_iff, show ((16 : Nat) : Int) = 16 from rfl]
  have e : v_X43_isImmediate 16 v = if ¬ v < (-2048) ∧ ¬ 2047 < v ∧ L_rem v 1 = 0 then 1 else 0 := by unfold v_X43_isImmediate; simp
  rw [e]
  by_cases c : -2048 ≤ v ∧ v ≤ 2047
  · have q := L_rem_0 (v := v) (by omega) (y := 1) (by decide) (by decide)
    by_cases d : v % 1 = 0
    · rw [if_pos ⟨by omega, by omega, q.mpr d⟩]; exact ⟨fun _ => ⟨c.1, c.2, d⟩, fun _ => rfl⟩
    · rw [if_neg (fun z => d (q.mp z.2.2))]; exact ⟨fun z => absurd z (by decide), fun z => absurd z.2.2 d⟩
  · rw [if_neg (fun z => c ⟨by omega, by omega⟩)]; exact ⟨fun z => absurd z (by decide), fun z => absurd ⟨z.1, z.2.1⟩ c⟩
theorem pImm_17 (v : Int) : pImm 17 v = true ↔ -2048 ≤ v ∧ v ≤ 2047 ∧ v % 1 = 0 := by
  unfold pImm
  rw [decide_eq_true_iff, show ((17 : Nat) : Int) = 17 from rfl]
  have e : v_X43_isImmediate 17 v = if ¬ v < (-2048) ∧ ¬ 2047 < v ∧ L_rem v 1 = 0 then 1 else 0 := by unfold v_X43_isImmediate; simp
  rw [e]
  by_cases c : -2048 ≤ v ∧ v ≤ 2047
  · have q := L_rem_0 (v := v) (by omega) (y := 1) (by decide) (by decide)
    by_cases d : v % 1 = 0
    · rw [if_pos ⟨by omega, by omega, q.mpr d⟩]; exact ⟨fun _ => ⟨c.1, c.2, d⟩, fun _ => rfl⟩
    · rw [if_neg (fun z => d (q.mp z.2.2))]; exact ⟨fun z => absurd z (by decide), fun z => absurd z.2.2 d⟩
  · rw [if_neg (fun z => c ⟨by omega, by omega⟩)]; exact ⟨fun z => absurd z (by decide), fun z => absurd ⟨z.1, z.2.1⟩ c⟩
theorem pImm_18 (v : Int) : pImm 18 v = true ↔ -2048 ≤ v ∧ v ≤ 2047 ∧ v % 1 = 0 := by
  unfold pImm
  rw [decide_eq_true_iff, show ((18 : Nat) : Int) = 18 from rfl]
  have e : v_X43_isImmediate 18 v = if ¬ v < (-2048) ∧ ¬ 2047 < v ∧ L_rem v 1 = 0 then 1 else 0 := by unfold v_X43_isImmediate; simp
  rw [e]
  by_cases c : -2048 ≤ v ∧ v ≤ 2047
  · have q := L_rem_0 (v := v) (by omega) (y := 1) (by decide) (by decide)
    by_cases d : v % 1 = 0
    · rw [if_pos ⟨by omega, by omega, q.mpr d⟩]; exact ⟨fun _ => ⟨c.1, c.2, d⟩, fun _ => rfl⟩
    · rw [if_neg (fun z => d (q.mp z.2.2))]; exact ⟨fun z => absurd z (by decide), fun z => absurd z.2.2 d⟩
  · rw [if_neg (fun z => c ⟨by omega, by omega⟩)]; exact ⟨fun z => absurd z (by decide), fun z => absurd ⟨z.1, z.2.1⟩ c⟩
theorem pImm_19 (v : Int) : pImm 19 v = true ↔ -2048 ≤ v ∧ v ≤ 2047 ∧ v % 1 = 0 := by
  unfold pImm
  rw [decide_eq_true_iff, show ((19 : Nat) : Int) = 19 from rfl]
  have e : v_X43_isImmediate 19 v = if ¬ v < (-2048) ∧ ¬ 2047 < v ∧ L_rem v 1 = 0 then 1 else 0 := by unfold v_X43_isImmediate; simp
  rw [e]
  by_cases c : -2048 ≤ v ∧ v ≤ 2047
  · have q := L_rem_0 (v := v) (by omega) (y := 1) (by decide) (by decide)
    by_cases d : v % 1 = 0
    · rw [if_pos ⟨by omega, by omega, q.mpr d⟩]; exact ⟨fun _ => ⟨c.1, c.2, d⟩, fun _ => rfl⟩
    · rw [if_neg (fun z => d (q.mp z.2.2))]; exact ⟨fun z => absurd z (by decide), fun z => absurd z.2.2 d⟩
  · rw [if_neg (fun z => c ⟨by omega, by omega⟩)]; exact ⟨fun z => absurd z (by decide), fun z => absurd ⟨z.1, z.2.1⟩ c⟩
theorem pImm_20 (v : Int) : pImm 20 v = true ↔ -2048 ≤ v ∧ v ≤ 2047 ∧ v % 1 = 0 := by
  unfold pImm
  rw [decide_eq_true_iff, show ((20 : Nat) : Int) = 20 from rfl]
  have e : v_X43_isImmediate 20 v = if ¬ v < (-2048) ∧ ¬ 2047 < v ∧ L_rem v 1 = 0 then 1 else 0 := by unfold v_X43_isImmediate; simp
  rw [e]
  by_cases c : -2048 ≤ v ∧ v ≤ 2047
  · have q := L_rem_0 (v := v) (by omega) (y := 1) (by decide) (by decide)
    by_cases d : v % 1 = 0
    · rw [if_pos ⟨by omega, by omega, q.mpr d⟩]; exact ⟨fun _ => ⟨c.1, c.2, d⟩, fun _ => rfl⟩
    · rw [if_neg (fun z => d (q.mp z.2.2))]; exact ⟨fun z => absurd z (by decide), fun z => absurd z.2.2 d⟩
  · rw [if_neg (fun z => c ⟨by omega, by omega⟩)]; exact ⟨fun z => absurd z (by decide), fun z => absurd ⟨z.1, z.2.1⟩ c⟩
theorem pImm_21 (v : Int) : pImm 21 v = true ↔ -2048 ≤ v ∧ v ≤ 2047 ∧ v % 1 = 0 := by
  unfold pImm
  rw [decide_eq_true_iff, show ((21 : Nat) : Int) = 21 from rfl]
  have e : v_X43_isImmediate 21 v = if ¬ v < (-2048) ∧ ¬ 2047 < v ∧ L_rem v 1 = 0 then 1 else 0 := by unfold v_X43_isImmediate; simp
  rw [e]
  by_cases c : -2048 ≤ v ∧ v ≤ 2047
  · have q := L_rem_0 (v := v) (by omega) (y := 1) (by decide) (by decide)
    by_cases d : v % 1 = 0
    · rw [if_pos ⟨by omega, by omega, q.mpr d⟩]; exact ⟨fun _ => ⟨c.1, c.2, d⟩, fun _ => rfl⟩
    · rw [if_neg (fun z => d (q.mp z.2.2))]; exact ⟨fun z => absurd z (by decide), fun z => absurd z.2.2 d⟩
  · rw [if_neg (fun z => c ⟨by omega, by omega⟩)]; exact ⟨fun z => absurd z (by decide), fun z => absurd ⟨z.1, z.2.1⟩ c⟩
theorem pImm_22 (v : Int) : pImm 22 v = true ↔ -2048 ≤ v ∧ v ≤ 2047 ∧ v % 1 = 0 := by
  unfold pImm
  rw [decide_eq_true_iff, show ((22 : Nat) : Int) = 22 from rfl]
  have e : v_X43_isImmediate 22 v = if ¬ v < (-2048) ∧ ¬ 2047 < v ∧ L_rem v 1 = 0 then 1 else 0 := by unfold v_X43_isImmediate; simp
  rw [e]
  by_cases c : -2048 ≤ v ∧ v ≤ 2047
  · have q := L_rem_0 (v := v) (by omega) (y := 1) (by decide) (by decide)
    by_cases d : v % 1 = 0
    · rw [if_pos ⟨by omega, by omega, q.mpr d⟩]; exact ⟨fun _ => ⟨c.1, c.2, d⟩, fun _ => rfl⟩
    · rw [if_neg (fun z => d (q.mp z.2.2))]; exact ⟨fun z => absurd z (by decide), fun z => absurd z.2.2 d⟩
  · rw [if_neg (fun z => c ⟨by omega, by omega⟩)]; exact ⟨fun z => absurd z (by decide), fun z => absurd ⟨z.1, z.2.1⟩ c⟩
theorem pImm_23 (v : Int) : pImm 23 v = true ↔ -2048 ≤ v ∧ v ≤ 2047 ∧ v % 1 = 0 := by
  unfold pImm
  rw [decide_eq_true_iff, show ((23 : Nat) : Int) = 23 from rfl]
  have e : v_X43_isImmediate 23 v = if ¬ v < (-2048) ∧ ¬ 2047 < v ∧ L_rem v 1 = 0 then 1 else 0 := by unfold v_X43_isImmediate; simp
  rw [e]
  by_cases c : -2048 ≤ v ∧ v ≤ 2047
  · have q := L_rem_0 (v := v) (by omega) (y := 1) (by decide) (by decide)
    by_cases d : v % 1 = 0
    · rw [if_pos ⟨by omega, by omega, q.mpr d⟩]; exact ⟨fun _ => ⟨c.1, c.2, d⟩, fun _ => rfl⟩
    · rw [if_neg (fun z => d (q.mp z.2.2))]; exact ⟨fun z => absurd z (by decide), fun z => absurd z.2.2 d⟩
  · rw [if_neg (fun z => c ⟨by omega, by omega⟩)]; exact ⟨fun z => absurd z (by decide), fun z => absurd ⟨z.1, z.2.1⟩ c⟩
theorem pImm_24 (v : Int) : pImm 24 v = true ↔ 0 ≤ v ∧ v ≤ 31 ∧ v % 1 = 0 := by
  unfold pImm
  rw [decide_eq_true_iff, show ((24 : Nat) : Int) = 24 from rfl]
  have e : v_X43_isImmediate 24 v = if ¬ v < 0 ∧ ¬ 31 < v ∧ L_rem v 1 = 0 then 1 else 0 := by unfold v_X43_isImmediate; simp
  rw [e]
  by_cases c : 0 ≤ v ∧ v ≤ 31
  · have q := L_rem_0 (v := v) (by omega) (y := 1) (by decide) (by decide)
    by_cases d : v % 1 = 0
    · rw [if_pos ⟨by omega, by omega, q.mpr d⟩]; exact ⟨fun _ => ⟨c.1, c.2, d⟩, fun _ => rfl⟩
    · rw [if_neg (fun z => d (q.mp z.2.2))]; exact ⟨fun z => absurd z (by decide), fun z => absurd z.2.2 d⟩
  · rw [if_neg (fun z => c ⟨by omega, by omega⟩)]; exact ⟨fun z => absurd z (by decide), fun z => absurd ⟨z.1, z.2.1⟩ c⟩
theorem pImm_25 (v : Int) : pImm 25 v = true ↔ 0 ≤ v ∧ v ≤ 31 ∧ v % 1 = 0 := by
  unfold pImm
  rw [decide_eq_true_iff, show ((25 : Nat) : Int) = 25 from rfl]
  have e : v_X43_isImmediate 25 v = if ¬ v < 0 ∧ ¬ 31 < v ∧ L_rem v 1 = 0 then 1 else 0 := by unfold v_X43_isImmediate; simp
  rw [e]
  by_cases c : 0 ≤ v ∧ v ≤ 31
  · have q := L_rem_0 (v := v) (by omega) (y := 1) (by decide) (by decide)
    by_cases d : v % 1 = 0
    · rw [if_pos ⟨by omega, by omega, q.mpr d⟩]; exact ⟨fun _ => ⟨c.1, c.2, d⟩, fun _ => rfl⟩
    · rw [if_neg (fun z => d (q.mp z.2.2))]; exact ⟨fun z => absurd z (by decide), fun z => absurd z.2.2 d⟩
  · rw [if_neg (fun z => c ⟨by omega, by omega⟩)]; exact ⟨fun z => absurd z (by decide), fun z => absurd ⟨z.1, z.2.1⟩ c⟩
theorem pImm_26 (v : Int) : pImm 26 v = true ↔ 0 ≤ v ∧ v ≤ 31 ∧ v % 1 = 0 := by
  unfold pImm
  rw [decide_eq_true_iff, show ((26 : Nat) : Int) = 26 from rfl]
  have e : v_X43_isImmediate 26 v = if ¬ v < 0 ∧ ¬ 31 < v ∧ L_rem v 1 = 0 then 1 else 0 := by unfold v_X43_isImmediate; simp
  rw [e]
  by_cases c : 0 ≤ v ∧ v ≤ 31
  · have q := L_rem_0 (v := v) (by omega) (y := 1) (by decide) (by decide)
    by_cases d : v % 1 = 0
    · rw [if_pos ⟨by omega, by omega, q.mpr d⟩]; exact ⟨fun _ => ⟨c.1, c.2, d⟩, fun _ => rfl⟩
    · rw [if_neg (fun z => d (q.mp z.2.2))]; exact ⟨fun z => absurd z (by decide), fun z => absurd z.2.2 d⟩
  · rw [if_neg (fun z => c ⟨by omega, by omega⟩)]; exact ⟨fun z => absurd z (by decide), fun z => absurd ⟨z.1, z.2.1⟩ c⟩
theorem pImm_48 (v : Int) : pImm 48 v = true ↔ 4 ≤ v ∧ v ≤ 1020 ∧ v % 4 = 0 := by
  unfold pImm
  rw [decide_eq_true_iff, show ((48 : Nat) : Int) = 48 from rfl]
  have e : v_X43_isImmediate 48 v = if ¬ v < 4 ∧ ¬ 1020 < v ∧ L_rem v 4 = 0 then 1 else 0 := by unfold v_X43_isImmediate; simp
  rw [e]
  by_cases c : 4 ≤ v ∧ v ≤ 1020
  · have q := L_rem_0 (v := v) (by omega) (y := 4) (by decide) (by decide)
    by_cases d : v % 4 = 0
    · rw [if_pos ⟨by omega, by omega, q.mpr d⟩]; exact ⟨fun _ => ⟨c.1, c.2, d⟩, fun _ => rfl⟩
    · rw [if_neg (fun z => d (q.mp z.2.2))]; exact ⟨fun z => absurd z (by decide), fun z => absurd z.2.2 d⟩
  · rw [if_neg (fun z => c ⟨by omega, by omega⟩)]; exact ⟨fun z => absurd z (by decide), fun z => absurd ⟨z.1, z.2.1⟩ c⟩
theorem pImm_49 (v : Int) : pImm 49 v = true ↔ 0 ≤ v ∧ v ≤ 124 ∧ v % 4 = 0 := by
  unfold pImm
  rw [decide_eq_true_iff, show ((49 : Nat) : Int) = 49 from rfl]
  have e : v_X43_isImmediate 49 v = if ¬ v < 0 ∧ ¬ 124 < v ∧ L_rem v 4 = 0 then 1 else 0 := by unfold v_X43_isImmediate; simp
  rw [e]
  by_cases c : 0 ≤ v ∧ v ≤ 124
  · have q := L_rem_0 (v := v) (by omega) (y := 4) (by decide) (by decide)
    by_cases d : v % 4 = 0
    · rw [if_pos ⟨by omega, by omega, q.mpr d⟩]; exact ⟨fun _ => ⟨c.1, c.2, d⟩, fun _ => rfl⟩
    · rw [if_neg (fun z => d (q.mp z.2.2))]; exact ⟨fun z => absurd z (by decide), fun z => absurd z.2.2 d⟩
  · rw [if_neg (fun z => c ⟨by omega, by omega⟩)]; exact ⟨fun z => absurd z (by decide), fun z => absurd ⟨z.1, z.2.1⟩ c⟩
theorem pImm_50 (v : Int) : pImm 50 v = true ↔ 0 ≤ v ∧ v ≤ 124 ∧ v % 4 = 0 := by
  unfold pImm
  rw [decide_eq_true_iff, show ((50 : Nat) : Int) = 50 from rfl]
  have e : v_X43_isImmediate 50 v = if ¬ v < 0 ∧ ¬ 124 < v ∧ L_rem v 4 = 0 then 1 else 0 := by unfold v_X43_isImmediate; simp
  rw [e]
  by_cases c : 0 ≤ v ∧ v ≤ 124
  · have q := L_rem_0 (v := v) (by omega) (y := 4) (by decide) (by decide)
    by_cases d : v % 4 = 0
    · rw [if_pos ⟨by omega, by omega, q.mpr d⟩]; exact ⟨fun _ => ⟨c.1, c.2, d⟩, fun _ => rfl⟩
    · rw [if_neg (fun z => d (q.mp z.2.2))]; exact ⟨fun z => absurd z (by decide), fun z => absurd z.2.2 d⟩
  · rw [if_neg (fun z => c ⟨by omega, by omega⟩)]; exact ⟨fun z => absurd z (by decide), fun z => absurd ⟨z.1, z.2.1⟩ c⟩
theorem pImm_52 (v : Int) : pImm 52 v = true ↔ ¬ v = 0 ∧ -32 ≤ v ∧ v ≤ 31 ∧ v % 1 = 0 := by
  unfold pImm
  rw [decide_eq_true_iff, show ((52 : Nat) : Int) = 52 from rfl]
  have e : v_X43_isImmediate 52 v = if ¬ v = 0 ∧ ¬ v < (-32) ∧ ¬ 31 < v ∧ L_rem v 1 = 0 then 1 else 0 := by
    unfold v_X43_isImmediate; simp
    by_cases z : v = 0 <;> simp [z]
  rw [e]
  by_cases c : -32 ≤ v ∧ v ≤ 31
  · have q := L_rem_0 (v := v) (by omega) (y := 1) (by decide) (by decide)
    by_cases d : v % 1 = 0 ∧ ¬ v = 0
    · rw [if_pos ⟨d.2, by omega, by omega, q.mpr d.1⟩]; exact ⟨fun _ => ⟨d.2, c.1, c.2, d.1⟩, fun _ => rfl⟩
    · rw [if_neg (fun z => d ⟨q.mp z.2.2.2, z.1⟩)]; exact ⟨fun z => absurd z (by decide), fun z => absurd ⟨z.2.2.2, z.1⟩ d⟩
  · rw [if_neg (fun z => c ⟨by omega, by omega⟩)]; exact ⟨fun z => absurd z (by decide), fun z => absurd ⟨z.2.1, z.2.2.1⟩ c⟩
theorem pImm_53 (v : Int) : pImm 53 v = true ↔ -2048 ≤ v ∧ v ≤ 2046 ∧ v % 2 = 0 := by
  unfold pImm
  rw [decide_eq_true_iff, show ((53 : Nat) : Int) = 53 from rfl]
  have e : v_X43_isImmediate 53 v = if ¬ v < (-2048) ∧ ¬ 2046 < v ∧ L_rem v 2 = 0 then 1 else 0 := by unfold v_X43_isImmediate; simp
  rw [e]
  by_cases c : -2048 ≤ v ∧ v ≤ 2046
  · have q := L_rem_0 (v := v) (by omega) (y := 2) (by decide) (by decide)
    by_cases d : v % 2 = 0
    · rw [if_pos ⟨by omega, by omega, q.mpr d⟩]; exact ⟨fun _ => ⟨c.1, c.2, d⟩, fun _ => rfl⟩
    · rw [if_neg (fun z => d (q.mp z.2.2))]; exact ⟨fun z => absurd z (by decide), fun z => absurd z.2.2 d⟩
  · rw [if_neg (fun z => c ⟨by omega, by omega⟩)]; exact ⟨fun z => absurd z (by decide), fun z => absurd ⟨z.1, z.2.1⟩ c⟩
theorem pImm_54 (v : Int) : pImm 54 v = true ↔ -32 ≤ v ∧ v ≤ 31 ∧ v % 1 = 0 := by
  unfold pImm
  rw [decide_eq_true_iff, show ((54 : Nat) : Int) = 54 from rfl]
  have e : v_X43_isImmediate 54 v = if ¬ v < (-32) ∧ ¬ 31 < v ∧ L_rem v 1 = 0 then 1 else 0 := by unfold v_X43_isImmediate; simp
  rw [e]
  by_cases c : -32 ≤ v ∧ v ≤ 31
  · have q := L_rem_0 (v := v) (by omega) (y := 1) (by decide) (by decide)
    by_cases d : v % 1 = 0
    · rw [if_pos ⟨by omega, by omega, q.mpr d⟩]; exact ⟨fun _ => ⟨c.1, c.2, d⟩, fun _ => rfl⟩
    · rw [if_neg (fun z => d (q.mp z.2.2))]; exact ⟨fun z => absurd z (by decide), fun z => absurd z.2.2 d⟩
  · rw [if_neg (fun z => c ⟨by omega, by omega⟩)]; exact ⟨fun z => absurd z (by decide), fun z => absurd ⟨z.1, z.2.1⟩ c⟩
theorem pImm_55 (v : Int) : pImm 55 v = true ↔ ¬ v = 0 ∧ -512 ≤ v ∧ v ≤ 496 ∧ v % 16 = 0 := by
  unfold pImm
  rw [decide_eq_true_iff, show ((55 : Nat) : Int) = 55 from rfl]
  have e : v_X43_isImmediate 55 v = if ¬ v = 0 ∧ ¬ v < (-512) ∧ ¬ 496 < v ∧ L_rem v 16 = 0 then 1 else 0 := by
    unfold v_X43_isImmediate; simp
    by_cases z : v = 0 <;> simp [z]
  rw [e]
  by_cases c : -512 ≤ v ∧ v ≤ 496
  · have q := L_rem_0 (v := v) (by omega) (y := 16) (by decide) (by decide)
    by_cases d : v % 16 = 0 ∧ ¬ v = 0
    · rw [if_pos ⟨d.2, by omega, by omega, q.mpr d.1⟩]; exact ⟨fun _ => ⟨d.2, c.1, c.2, d.1⟩, fun _ => rfl⟩
    · rw [if_neg (fun z => d ⟨q.mp z.2.2.2, z.1⟩)]; exact ⟨fun z => absurd z (by decide), fun z => absurd ⟨z.2.2.2, z.1⟩ d⟩
  · rw [if_neg (fun z => c ⟨by omega, by omega⟩)]; exact ⟨fun z => absurd z (by decide), fun z => absurd ⟨z.2.1, z.2.2.1⟩ c⟩
theorem pImm_56 (v : Int) : pImm 56 v = true ↔ 1 ≤ v ∧ v ≤ 31 ∨ 1048544 ≤ v ∧ v ≤ 1048575 := by
  unfold pImm
  rw [decide_eq_true_iff, show ((56 : Nat) : Int) = 56 from rfl]
  have e : v_X43_isImmediate 56 v = if (¬ v < 1 ∧ ¬ 31 < v ∧ L_rem v 1 = 0) ∨ (¬ v < 1048544 ∧ ¬ 1048575 < v ∧ L_rem v 1 = 0) then 1 else 0 := by
    unfold v_X43_isImmediate; simp
    try grind
  rw [e]
  by_cases c : 1 ≤ v ∧ v ≤ 31 ∨ 1048544 ≤ v ∧ v ≤ 1048575
  · have q := (L_rem_0 (v := v) (by omega) (y := 1) (by decide) (by decide)).mpr (by omega)
    rw [if_pos (by rcases c with c | c; exact .inl ⟨by omega, by omega, q⟩; exact .inr ⟨by omega, by omega, q⟩)]; exact ⟨fun _ => c, fun _ => rfl⟩
  · rw [if_neg (fun z => c (by rcases z with z | z; exact .inl ⟨by omega, by omega⟩; exact .inr ⟨by omega, by omega⟩))]; exact ⟨fun z => absurd z (by decide), fun z => absurd z c⟩
theorem pImm_57 (v : Int) : pImm 57 v = true ↔ 1 ≤ v ∧ v ≤ 31 ∧ v % 1 = 0 := by
  unfold pImm
  rw [decide_eq_true_iff, show ((57 : Nat) : Int) = 57 from rfl]
  have e : v_X43_isImmediate 57 v = if ¬ v < 1 ∧ ¬ 31 < v ∧ L_rem v 1 = 0 then 1 else 0 := by unfold v_X43_isImmediate; simp
  rw [e]
  by_cases c : 1 ≤ v ∧ v ≤ 31
  · have q := L_rem_0 (v := v) (by omega) (y := 1) (by decide) (by decide)
    by_cases d : v % 1 = 0
    · rw [if_pos ⟨by omega, by omega, q.mpr d⟩]; exact ⟨fun _ => ⟨c.1, c.2, d⟩, fun _ => rfl⟩
    · rw [if_neg (fun z => d (q.mp z.2.2))]; exact ⟨fun z => absurd z (by decide), fun z => absurd z.2.2 d⟩
  · rw [if_neg (fun z => c ⟨by omega, by omega⟩)]; exact ⟨fun z => absurd z (by decide), fun z => absurd ⟨z.1, z.2.1⟩ c⟩
theorem pImm_58 (v : Int) : pImm 58 v = true ↔ 1 ≤ v ∧ v ≤ 31 ∧ v % 1 = 0 := by
  unfold pImm
  rw [decide_eq_true_iff, show ((58 : Nat) : Int) = 58 from rfl]
  have e : v_X43_isImmediate 58 v = if ¬ v < 1 ∧ ¬ 31 < v ∧ L_rem v 1 = 0 then 1 else 0 := by unfold v_X43_isImmediate; simp
  rw [e]
  by_cases c : 1 ≤ v ∧ v ≤ 31
  · have q := L_rem_0 (v := v) (by omega) (y := 1) (by decide) (by decide)
    by_cases d : v % 1 = 0
    · rw [if_pos ⟨by omega, by omega, q.mpr d⟩]; exact ⟨fun _ => ⟨c.1, c.2, d⟩, fun _ => rfl⟩
    · rw [if_neg (fun z => d (q.mp z.2.2))]; exact ⟨fun z => absurd z (by decide), fun z => absurd z.2.2 d⟩
  · rw [if_neg (fun z => c ⟨by omega, by omega⟩)]; exact ⟨fun z => absurd z (by decide), fun z => absurd ⟨z.1, z.2.1⟩ c⟩
theorem pImm_59 (v : Int) : pImm 59 v = true ↔ -32 ≤ v ∧ v ≤ 31 ∧ v % 1 = 0 := by
  unfold pImm
  rw [decide_eq_true_iff, show ((59 : Nat) : Int) = 59 from rfl]
  have e : v_X43_isImmediate 59 v = if ¬ v < (-32) ∧ ¬ 31 < v ∧ L_rem v 1 = 0 then 1 else 0 := by unfold v_X43_isImmediate; simp
  rw [e]
  by_cases c : -32 ≤ v ∧ v ≤ 31
  · have q := L_rem_0 (v := v) (by omega) (y := 1) (by decide) (by decide)
    by_cases d : v % 1 = 0
    · rw [if_pos ⟨by omega, by omega, q.mpr d⟩]; exact ⟨fun _ => ⟨c.1, c.2, d⟩, fun _ => rfl⟩
    · rw [if_neg (fun z => d (q.mp z.2.2))]; exact ⟨fun z => absurd z (by decide), fun z => absurd z.2.2 d⟩
  · rw [if_neg (fun z => c ⟨by omega, by omega⟩)]; exact ⟨fun z => absurd z (by decide), fun z => absurd ⟨z.1, z.2.1⟩ c⟩
theorem pImm_64 (v : Int) : pImm 64 v = true ↔ -2048 ≤ v ∧ v ≤ 2046 ∧ v % 2 = 0 := by
  unfold pImm
  rw [decide_eq_true_iff, show ((64 : Nat) : Int) = 64 from rfl]
  have e : v_X43_isImmediate 64 v = if ¬ v < (-2048) ∧ ¬ 2046 < v ∧ L_rem v 2 = 0 then 1 else 0 := by unfold v_X43_isImmediate; simp
  rw [e]
  by_cases c : -2048 ≤ v ∧ v ≤ 2046
  · have q := L_rem_0 (v := v) (by omega) (y := 2) (by decide) (by decide)
    by_cases d : v % 2 = 0
    · rw [if_pos ⟨by omega, by omega, q.mpr d⟩]; exact ⟨fun _ => ⟨c.1, c.2, d⟩, fun _ => rfl⟩
    · rw [if_neg (fun z => d (q.mp z.2.2))]; exact ⟨fun z => absurd z (by decide), fun z => absurd z.2.2 d⟩
  · rw [if_neg (fun z => c ⟨by omega, by omega⟩)]; exact ⟨fun z => absurd z (by decide), fun z => absurd ⟨z.1, z.2.1⟩ c⟩
theorem pImm_65 (v : Int) : pImm 65 v = true ↔ -256 ≤ v ∧ v ≤ 254 ∧ v % 2 = 0 := by
  unfold pImm
  rw [decide_eq_true_iff, show ((65 : Nat) : Int) = 65 from rfl]
  have e : v_X43_isImmediate 65 v = if ¬ v < (-256) ∧ ¬ 254 < v ∧ L_rem v 2 = 0 then 1 else 0 := by unfold v_X43_isImmediate; simp
  rw [e]
  by_cases c : -256 ≤ v ∧ v ≤ 254
  · have q := L_rem_0 (v := v) (by omega) (y := 2) (by decide) (by decide)
    by_cases d : v % 2 = 0
    · rw [if_pos ⟨by omega, by omega, q.mpr d⟩]; exact ⟨fun _ => ⟨c.1, c.2, d⟩, fun _ => rfl⟩
    · rw [if_neg (fun z => d (q.mp z.2.2))]; exact ⟨fun z => absurd z (by decide), fun z => absurd z.2.2 d⟩
  · rw [if_neg (fun z => c ⟨by omega, by omega⟩)]; exact ⟨fun z => absurd z (by decide), fun z => absurd ⟨z.1, z.2.1⟩ c⟩
theorem pImm_66 (v : Int) : pImm 66 v = true ↔ -256 ≤ v ∧ v ≤ 254 ∧ v % 2 = 0 := by
  unfold pImm
  rw [decide_eq_true_iff, show ((66 : Nat) : Int) = 66 from rfl]
  have e : v_X43_isImmediate 66 v = if ¬ v < (-256) ∧ ¬ 254 < v ∧ L_rem v 2 = 0 then 1 else 0 := by unfold v_X43_isImmediate; simp
  rw [e]
  by_cases c : -256 ≤ v ∧ v ≤ 254
  · have q := L_rem_0 (v := v) (by omega) (y := 2) (by decide) (by decide)
    by_cases d : v % 2 = 0
    · rw [if_pos ⟨by omega, by omega, q.mpr d⟩]; exact ⟨fun _ => ⟨c.1, c.2, d⟩, fun _ => rfl⟩
    · rw [if_neg (fun z => d (q.mp z.2.2))]; exact ⟨fun z => absurd z (by decide), fun z => absurd z.2.2 d⟩
  · rw [if_neg (fun z => c ⟨by omega, by omega⟩)]; exact ⟨fun z => absurd z (by decide), fun z => absurd ⟨z.1, z.2.1⟩ c⟩
theorem pImm_67 (v : Int) : pImm 67 v = true ↔ 1 ≤ v ∧ v ≤ 31 ∧ v % 1 = 0 := by
  unfold pImm
  rw [decide_eq_true_iff, show ((67 : Nat) : Int) = 67 from rfl]
  have e : v_X43_isImmediate 67 v = if ¬ v < 1 ∧ ¬ 31 < v ∧ L_rem v 1 = 0 then 1 else 0 := by unfold v_X43_isImmediate; simp
  rw [e]
  by_cases c : 1 ≤ v ∧ v ≤ 31
  · have q := L_rem_0 (v := v) (by omega) (y := 1) (by decide) (by decide)
    by_cases d : v % 1 = 0
    · rw [if_pos ⟨by omega, by omega, q.mpr d⟩]; exact ⟨fun _ => ⟨c.1, c.2, d⟩, fun _ => rfl⟩
    · rw [if_neg (fun z => d (q.mp z.2.2))]; exact ⟨fun z => absurd z (by decide), fun z => absurd z.2.2 d⟩
  · rw [if_neg (fun z => c ⟨by omega, by omega⟩)]; exact ⟨fun z => absurd z (by decide), fun z => absurd ⟨z.1, z.2.1⟩ c⟩
theorem pImm_68 (v : Int) : pImm 68 v = true ↔ 0 ≤ v ∧ v ≤ 252 ∧ v % 4 = 0 := by
  unfold pImm
  rw [decide_eq_true_iff, show ((68 : Nat) : Int) = 68 from rfl]
  have e : v_X43_isImmediate 68 v = if ¬ v < 0 ∧ ¬ 252 < v ∧ L_rem v 4 = 0 then 1 else 0 := by unfold v_X43_isImmediate; simp
  rw [e]
  by_cases c : 0 ≤ v ∧ v ≤ 252
  · have q := L_rem_0 (v := v) (by omega) (y := 4) (by decide) (by decide)
    by_cases d : v % 4 = 0
    · rw [if_pos ⟨by omega, by omega, q.mpr d⟩]; exact ⟨fun _ => ⟨c.1, c.2, d⟩, fun _ => rfl⟩
    · rw [if_neg (fun z => d (q.mp z.2.2))]; exact ⟨fun z => absurd z (by decide), fun z => absurd z.2.2 d⟩
  · rw [if_neg (fun z => c ⟨by omega, by omega⟩)]; exact ⟨fun z => absurd z (by decide), fun z => absurd ⟨z.1, z.2.1⟩ c⟩
theorem pImm_74 (v : Int) : pImm 74 v = true ↔ 0 ≤ v ∧ v ≤ 252 ∧ v % 4 = 0 := by
  unfold pImm
  rw [decide_eq_true_iff, show ((74 : Nat) : Int) = 74 from rfl]
  have e : v_X43_isImmediate 74 v = if ¬ v < 0 ∧ ¬ 252 < v ∧ L_rem v 4 = 0 then 1 else 0 := by unfold v_X43_isImmediate; simp
  rw [e]
  by_cases c : 0 ≤ v ∧ v ≤ 252
  · have q := L_rem_0 (v := v) (by omega) (y := 4) (by decide) (by decide)
    by_cases d : v % 4 = 0
    · rw [if_pos ⟨by omega, by omega, q.mpr d⟩]; exact ⟨fun _ => ⟨c.1, c.2, d⟩, fun _ => rfl⟩
    · rw [if_neg (fun z => d (q.mp z.2.2))]; exact ⟨fun z => absurd z (by decide), fun z => absurd z.2.2 d⟩
  · rw [if_neg (fun z => c ⟨by omega, by omega⟩)]; exact ⟨fun z => absurd z (by decide), fun z => absurd ⟨z.1, z.2.1⟩ c⟩
end jKinds2
