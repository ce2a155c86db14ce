/-! values of methods that only read: printed by gen_val.py -/
set_option maxRecDepth 100000
noncomputable section
theorem Wz_if {P : Prop} [Decidable P] : Wz (if P then 1 else 0) = if P then 1 else 0 := by
  split
  · exact Wz_1
  · exact Wz_0
theorem jz {P : Prop} [Decidable P] {α : Type} {A B : α} : (if (if P then (1 : Int) else 0) = 0 then A else B) = if P then B else A := by
  by_cases h : P
  · rw [if_pos h, if_pos h, if_neg (by decide)]
  · rw [if_neg h, if_neg h, if_pos rfl]
theorem jite {c : Prop} [Decidable c] {A B : Option Int} {a b : Int} (h : c → A = some a) (h2 : ¬ c → B = some b) : (if c then A else B) = some (if c then a else b) := by
  by_cases q : c
  · rw [if_pos q, if_pos q]; exact h q
  · rw [if_neg q, if_neg q]; exact h2 q
set_option maxHeartbeats 20000 in
theorem e_X1_fault (s : jS) (x0 x1 : Int) : m_X1_fault s x0 x1 = some (if x1 = 0 then (jf s 1 x0 9) else if x1 = 1 then (jf s 1 x0 10) else (-1)) := by
  rw [em_X1_fault]; unfold dm_X1_fault
  repeat' (first | refine jite (fun _ => ?_) (fun _ => ?_) | rw [jz] | rw [Option.bind_some])
  all_goals first | rfl | ((try simp (disch := grind) only [Option.bind_some, jlet, Wz_0, Wz_1, Wz_if, L_cmp_0, L_cmp_lt, L_cmp_gt]); all_goals (first | rfl | (simp only [apply_ite some]; done) | ((try simp only [jlt, jix, jdv, jrd, Option.bind_some]); ((repeat' split) <;> first | rfl | omega | (simp_all; done) | (simp_all; omega)); done) | grind (splits := 40) [jlt, jix, jdv, jrd]))
set_option maxHeartbeats 20000 in
theorem e_X1_isUnit (s : jS) (x0 : Int) : m_X1_isUnit s x0 = some (if ¬ (x0 < 0) ∧ (x0 < 6) then 1 else 0) := by
  rw [em_X1_isUnit]; unfold dm_X1_isUnit
  all_goals first | rfl | ((try simp (disch := grind) only [Option.bind_some, jlet, Wz_0, Wz_1, Wz_if, L_cmp_0, L_cmp_lt, L_cmp_gt]); all_goals (first | rfl | ((by_cases hP : (¬ (x0 < 0) ∧ (x0 < 6))) <;> (first | rw [if_pos hP] | rw [if_neg hP]) <;> (try simp only [jlt, jix, jdv, jrd, Option.bind_some]) <;> (repeat' split) <;> first | rfl | (exfalso; omega) | (simp_all; done) | (simp_all; omega)) | grind (splits := 40) [jlt, jix, jdv, jrd]))
def v_X1_linked (s : jS) (x0 x1 : Int) : Int := if x1 = 0 then (jf s 39 (x0 + 4275) 6) else if x1 = 1 then if (jf s 39 (x0 + 4275) 6) = 0 then (-1) else (jf s 39 (x0 + 4275) 7) else if x1 = 2 then if (jf s 39 (x0 + 4275) 6) = 0 then (-1) else (jf s 39 (x0 + 4275) 8) else if x1 = 3 then (jf s 39 (x0 + 4275) 46) else if x1 = 4 then (jf s 39 (x0 + 4275) 47) else (-1)
set_option maxHeartbeats 20000 in
theorem e_X1_linked (s : jS) (x0 x1 : Int) : m_X1_linked s x0 x1 = some (v_X1_linked s x0 x1) := by
  rw [em_X1_linked]; unfold dm_X1_linked
  unfold v_X1_linked
  repeat' (first | refine jite (fun _ => ?_) (fun _ => ?_) | rw [jz] | rw [Option.bind_some])
  all_goals first | rfl | ((try simp (disch := grind) only [Option.bind_some, jlet, Wz_0, Wz_1, Wz_if, L_cmp_0, L_cmp_lt, L_cmp_gt]); all_goals (first | rfl | (simp only [v_X1_linked, apply_ite some]; done) | ((try simp only [jlt, jix, jdv, jrd, Option.bind_some]); ((repeat' split) <;> first | rfl | omega | (simp_all; done) | (simp_all; omega)); done) | grind (splits := 40) [jlt, jix, jdv, jrd, v_X1_linked]))
set_option maxHeartbeats 20000 in
theorem e_X1_place (s : jS) (x0 : Int) : m_X1_place s x0 = some ((jf s 1 x0 11)) := by
  rw [em_X1_place]; unfold dm_X1_place
  repeat' (first | refine jite (fun _ => ?_) (fun _ => ?_) | rw [jz] | rw [Option.bind_some])
  all_goals first | rfl | ((try simp (disch := grind) only [Option.bind_some, jlet, Wz_0, Wz_1, Wz_if, L_cmp_0, L_cmp_lt, L_cmp_gt]); all_goals (first | rfl | (simp only [apply_ite some]; done) | ((try simp only [jlt, jix, jdv, jrd, Option.bind_some]); ((repeat' split) <;> first | rfl | omega | (simp_all; done) | (simp_all; omega)); done) | grind (splits := 40) [jlt, jix, jdv, jrd]))
set_option maxHeartbeats 20000 in
theorem e_X2_row (s : jS) (x0 : Int) : m_X2_row s x0 = some (x0) := by
  rw [em_X2_row]; unfold dm_X2_row
  repeat' (first | refine jite (fun _ => ?_) (fun _ => ?_) | rw [jz] | rw [Option.bind_some])
  all_goals first | rfl | ((try simp (disch := grind) only [Option.bind_some, jlet, Wz_0, Wz_1, Wz_if, L_cmp_0, L_cmp_lt, L_cmp_gt]); all_goals (first | rfl | (simp only [apply_ite some]; done) | ((try simp only [jlt, jix, jdv, jrd, Option.bind_some]); ((repeat' split) <;> first | rfl | omega | (simp_all; done) | (simp_all; omega)); done) | grind (splits := 40) [jlt, jix, jdv, jrd]))
set_option maxHeartbeats 20000 in
theorem e_X2_whole (s : jS) (x0 : Int) : m_X2_whole s x0 = some (if (I_and x0 3) = 3 then x0 else (I_and x0 65535)) := by
  rw [em_X2_whole]; unfold dm_X2_whole
  repeat' (first | refine jite (fun _ => ?_) (fun _ => ?_) | rw [jz] | rw [Option.bind_some])
  all_goals first | rfl | ((try simp (disch := grind) only [Option.bind_some, jlet, Wz_0, Wz_1, Wz_if, L_cmp_0, L_cmp_lt, L_cmp_gt]); all_goals (first | rfl | (simp only [apply_ite some]; done) | ((try simp only [jlt, jix, jdv, jrd, Option.bind_some]); ((repeat' split) <;> first | rfl | omega | (simp_all; done) | (simp_all; omega)); done) | grind (splits := 40) [jlt, jix, jdv, jrd]))
set_option maxHeartbeats 20000 in
theorem e_X2_size (s : jS) (x0 x1 : Int) : m_X2_size s x0 x1 = some (if (I_and x1 3) = 3 then 4 else 2) := by
  rw [em_X2_size]; unfold dm_X2_size
  repeat' (first | refine jite (fun _ => ?_) (fun _ => ?_) | rw [jz] | rw [Option.bind_some])
  all_goals first | rfl | ((try simp (disch := grind) only [Option.bind_some, jlet, Wz_0, Wz_1, Wz_if, L_cmp_0, L_cmp_lt, L_cmp_gt]); all_goals (first | rfl | (simp only [apply_ite some]; done) | ((try simp only [jlt, jix, jdv, jrd, Option.bind_some]); ((repeat' split) <;> first | rfl | omega | (simp_all; done) | (simp_all; omega)); done) | grind (splits := 40) [jlt, jix, jdv, jrd]))
set_option maxHeartbeats 20000 in
theorem e_X2_isKind (s : jS) (x0 x1 : Int) : m_X2_isKind s x0 x1 = some (if ¬ (x1 < 0) ∧ (x1 < 75) then 1 else 0) := by
  rw [em_X2_isKind]; unfold dm_X2_isKind
  all_goals first | rfl | ((try simp (disch := grind) only [Option.bind_some, jlet, Wz_0, Wz_1, Wz_if, L_cmp_0, L_cmp_lt, L_cmp_gt]); all_goals (first | rfl | ((by_cases hP : (¬ (x1 < 0) ∧ (x1 < 75))) <;> (first | rw [if_pos hP] | rw [if_neg hP]) <;> (try simp only [jlt, jix, jdv, jrd, Option.bind_some]) <;> (repeat' split) <;> first | rfl | (exfalso; omega) | (simp_all; done) | (simp_all; omega)) | grind (splits := 40) [jlt, jix, jdv, jrd]))
set_option maxHeartbeats 20000 in
theorem e_X4_all (s : jS) (x0 : Int) : m_X4_all s x0 = some (31) := by
  rw [em_X4_all]; unfold dm_X4_all
  repeat' (first | refine jite (fun _ => ?_) (fun _ => ?_) | rw [jz] | rw [Option.bind_some])
  all_goals first | rfl | ((try simp (disch := grind) only [Option.bind_some, jlet, Wz_0, Wz_1, Wz_if, L_cmp_0, L_cmp_lt, L_cmp_gt]); all_goals (first | rfl | (simp only [apply_ite some]; done) | ((try simp only [jlt, jix, jdv, jrd, Option.bind_some]); ((repeat' split) <;> first | rfl | omega | (simp_all; done) | (simp_all; omega)); done) | grind (splits := 40) [jlt, jix, jdv, jrd]))
set_option maxHeartbeats 20000 in
theorem e_X4_put (s : jS) (x0 x1 x2 : Int) : m_X4_put s x0 x1 x2 = some ((I_or (I_and x1 (I_xor (I_shl 31 (jf s 4 x0 0)) (-1))) (I_shl x2 (jf s 4 x0 0)))) := by
  rw [em_X4_put]; unfold dm_X4_put
  repeat' (first | refine jite (fun _ => ?_) (fun _ => ?_) | rw [jz] | rw [Option.bind_some])
  all_goals first | rfl | ((try simp (disch := grind) only [Option.bind_some, jlet, Wz_0, Wz_1, Wz_if, L_cmp_0, L_cmp_lt, L_cmp_gt]); all_goals (first | rfl | (simp only [apply_ite some]; done) | ((try simp only [jlt, jix, jdv, jrd, Option.bind_some]); ((repeat' split) <;> first | rfl | omega | (simp_all; done) | (simp_all; omega)); done) | grind (splits := 40) [jlt, jix, jdv, jrd]))
set_option maxHeartbeats 20000 in
theorem e_X4_take (s : jS) (x0 x1 : Int) : m_X4_take s x0 x1 = some ((I_and (I_shr x1 (jf s 4 x0 0)) 31)) := by
  rw [em_X4_take]; unfold dm_X4_take
  repeat' (first | refine jite (fun _ => ?_) (fun _ => ?_) | rw [jz] | rw [Option.bind_some])
  all_goals first | rfl | ((try simp (disch := grind) only [Option.bind_some, jlet, Wz_0, Wz_1, Wz_if, L_cmp_0, L_cmp_lt, L_cmp_gt]); all_goals (first | rfl | (simp only [apply_ite some]; done) | ((try simp only [jlt, jix, jdv, jrd, Option.bind_some]); ((repeat' split) <;> first | rfl | omega | (simp_all; done) | (simp_all; omega)); done) | grind (splits := 40) [jlt, jix, jdv, jrd]))
set_option maxHeartbeats 20000 in
theorem e_X4_may (s : jS) (x0 x1 : Int) : m_X4_may s x0 x1 = some (if ¬ (x1 < 0) ∧ ((x1 < 32) ∧ ((I_and (I_shr (jf s 4 x0 1) (L2i x1)) 1) = 0)) then 1 else 0) := by
  rw [em_X4_may]; unfold dm_X4_may
  all_goals first | rfl | ((try simp (disch := grind) only [Option.bind_some, jlet, Wz_0, Wz_1, Wz_if, L_cmp_0, L_cmp_lt, L_cmp_gt]); all_goals (first | rfl | ((by_cases hP : (¬ (x1 < 0) ∧ ((x1 < 32) ∧ ((I_and (I_shr (jf s 4 x0 1) (L2i x1)) 1) = 0)))) <;> (first | rw [if_pos hP] | rw [if_neg hP]) <;> (try simp only [jlt, jix, jdv, jrd, Option.bind_some]) <;> (repeat' split) <;> first | rfl | (exfalso; omega) | (simp_all; done) | (simp_all; omega)) | grind (splits := 40) [jlt, jix, jdv, jrd]))
set_option maxHeartbeats 20000 in
theorem e_X5_all (s : jS) (x0 : Int) : m_X5_all s x0 = some (15) := by
  rw [em_X5_all]; unfold dm_X5_all
  repeat' (first | refine jite (fun _ => ?_) (fun _ => ?_) | rw [jz] | rw [Option.bind_some])
  all_goals first | rfl | ((try simp (disch := grind) only [Option.bind_some, jlet, Wz_0, Wz_1, Wz_if, L_cmp_0, L_cmp_lt, L_cmp_gt]); all_goals (first | rfl | (simp only [apply_ite some]; done) | ((try simp only [jlt, jix, jdv, jrd, Option.bind_some]); ((repeat' split) <;> first | rfl | omega | (simp_all; done) | (simp_all; omega)); done) | grind (splits := 40) [jlt, jix, jdv, jrd]))
set_option maxHeartbeats 20000 in
theorem e_X5_put (s : jS) (x0 x1 x2 : Int) : m_X5_put s x0 x1 x2 = some ((I_or (I_and x1 (I_xor (I_shl 7 (jf s 5 x0 0)) (-1))) (I_shl (W32 (x2 - 8)) (jf s 5 x0 0)))) := by
  rw [em_X5_put]; unfold dm_X5_put
  repeat' (first | refine jite (fun _ => ?_) (fun _ => ?_) | rw [jz] | rw [Option.bind_some])
  all_goals first | rfl | ((try simp (disch := grind) only [Option.bind_some, jlet, Wz_0, Wz_1, Wz_if, L_cmp_0, L_cmp_lt, L_cmp_gt]); all_goals (first | rfl | (simp only [apply_ite some]; done) | ((try simp only [jlt, jix, jdv, jrd, Option.bind_some]); ((repeat' split) <;> first | rfl | omega | (simp_all; done) | (simp_all; omega)); done) | grind (splits := 40) [jlt, jix, jdv, jrd]))
set_option maxHeartbeats 20000 in
theorem e_X5_take (s : jS) (x0 x1 : Int) : m_X5_take s x0 x1 = some ((W32 (8 + (I_and (I_shr x1 (jf s 5 x0 0)) 7)))) := by
  rw [em_X5_take]; unfold dm_X5_take
  repeat' (first | refine jite (fun _ => ?_) (fun _ => ?_) | rw [jz] | rw [Option.bind_some])
  all_goals first | rfl | ((try simp (disch := grind) only [Option.bind_some, jlet, Wz_0, Wz_1, Wz_if, L_cmp_0, L_cmp_lt, L_cmp_gt]); all_goals (first | rfl | (simp only [apply_ite some]; done) | ((try simp only [jlt, jix, jdv, jrd, Option.bind_some]); ((repeat' split) <;> first | rfl | omega | (simp_all; done) | (simp_all; omega)); done) | grind (splits := 40) [jlt, jix, jdv, jrd]))
set_option maxHeartbeats 20000 in
theorem e_X5_may (s : jS) (x0 x1 : Int) : m_X5_may s x0 x1 = some (if ¬ (x1 < 8) ∧ (x1 < 16) then 1 else 0) := by
  rw [em_X5_may]; unfold dm_X5_may
  all_goals first | rfl | ((try simp (disch := grind) only [Option.bind_some, jlet, Wz_0, Wz_1, Wz_if, L_cmp_0, L_cmp_lt, L_cmp_gt]); all_goals (first | rfl | ((by_cases hP : (¬ (x1 < 8) ∧ (x1 < 16))) <;> (first | rw [if_pos hP] | rw [if_neg hP]) <;> (try simp only [jlt, jix, jdv, jrd, Option.bind_some]) <;> (repeat' split) <;> first | rfl | (exfalso; omega) | (simp_all; done) | (simp_all; omega)) | grind (splits := 40) [jlt, jix, jdv, jrd]))
set_option maxHeartbeats 20000 in
theorem e_X6_all (s : jS) (x0 : Int) : m_X6_all s x0 = some ((-1)) := by
  rw [em_X6_all]; unfold dm_X6_all
  repeat' (first | refine jite (fun _ => ?_) (fun _ => ?_) | rw [jz] | rw [Option.bind_some])
  all_goals first | rfl | ((try simp (disch := grind) only [Option.bind_some, jlet, Wz_0, Wz_1, Wz_if, L_cmp_0, L_cmp_lt, L_cmp_gt]); all_goals (first | rfl | (simp only [apply_ite some]; done) | ((try simp only [jlt, jix, jdv, jrd, Option.bind_some]); ((repeat' split) <;> first | rfl | omega | (simp_all; done) | (simp_all; omega)); done) | grind (splits := 40) [jlt, jix, jdv, jrd]))
set_option maxHeartbeats 20000 in
theorem e_J0_isLatin1 (s : jS) (x0 : Int) : m_J0_isLatin1 s x0 = some (if ¬ (1 = 0) ∧ ((jf s 8 x0 1) = 0) then 1 else 0) := by
  rw [em_J0_isLatin1]; unfold dm_J0_isLatin1
  all_goals first | rfl | ((try simp (disch := grind) only [Option.bind_some, jlet, Wz_0, Wz_1, Wz_if, L_cmp_0, L_cmp_lt, L_cmp_gt]); all_goals (first | rfl | ((by_cases hP : (¬ (1 = 0) ∧ ((jf s 8 x0 1) = 0))) <;> (first | rw [if_pos hP] | rw [if_neg hP]) <;> (try simp only [jlt, jix, jdv, jrd, Option.bind_some]) <;> (repeat' split) <;> first | rfl | (exfalso; omega) | (simp_all; done) | (simp_all; omega)) | grind (splits := 40) [jlt, jix, jdv, jrd]))
set_option maxHeartbeats 20000 in
theorem e_J0_getValue (s : jS) (x0 : Int) : m_J0_getValue s x0 = some ((jf s 8 x0 0)) := by
  rw [em_J0_getValue]; unfold dm_J0_getValue
  repeat' (first | refine jite (fun _ => ?_) (fun _ => ?_) | rw [jz] | rw [Option.bind_some])
  all_goals first | rfl | ((try simp (disch := grind) only [Option.bind_some, jlet, Wz_0, Wz_1, Wz_if, L_cmp_0, L_cmp_lt, L_cmp_gt]); all_goals (first | rfl | (simp only [apply_ite some]; done) | ((try simp only [jlt, jix, jdv, jrd, Option.bind_some]); ((repeat' split) <;> first | rfl | omega | (simp_all; done) | (simp_all; omega)); done) | grind (splits := 40) [jlt, jix, jdv, jrd]))
set_option maxHeartbeats 20000 in
theorem e_J0_length (s : jS) (x0 : Int) : m_J0_length s x0 = some ((jf s 8 x0 3)) := by
  rw [em_J0_length]; unfold dm_J0_length
  repeat' (first | refine jite (fun _ => ?_) (fun _ => ?_) | rw [jz] | rw [Option.bind_some])
  all_goals first | rfl | ((try simp (disch := grind) only [Option.bind_some, jlet, Wz_0, Wz_1, Wz_if, L_cmp_0, L_cmp_lt, L_cmp_gt]); all_goals (first | rfl | (simp only [apply_ite some]; done) | ((try simp only [jlt, jix, jdv, jrd, Option.bind_some]); ((repeat' split) <;> first | rfl | omega | (simp_all; done) | (simp_all; omega)); done) | grind (splits := 40) [jlt, jix, jdv, jrd]))
set_option maxHeartbeats 20000 in
theorem e_X10_may (s : jS) (x0 x1 : Int) : m_X10_may s x0 x1 = some (if (0 < x1) ∧ ((x1 < 32) ∨ (¬ (x1 < 1048544) ∧ (x1 < 1048576))) ∨ ¬ (0 < x1) ∧ (¬ (x1 < 1048544) ∧ (x1 < 1048576)) then 1 else 0) := by
  rw [em_X10_may]; unfold dm_X10_may
  all_goals first | rfl | ((try simp (disch := grind) only [eu_X10_may_14, du_X10_may_14, Option.bind_some, jlet, Wz_0, Wz_1, Wz_if, L_cmp_0, L_cmp_lt, L_cmp_gt]); all_goals (first | rfl | ((by_cases hP : ((0 < x1) ∧ ((x1 < 32) ∨ (¬ (x1 < 1048544) ∧ (x1 < 1048576))) ∨ ¬ (0 < x1) ∧ (¬ (x1 < 1048544) ∧ (x1 < 1048576)))) <;> (first | rw [if_pos hP] | rw [if_neg hP]) <;> (try simp only [jlt, jix, jdv, jrd, Option.bind_some]) <;> (repeat' split) <;> first | rfl | (exfalso; omega) | (simp_all; done) | (simp_all; omega)) | grind (splits := 40) [jlt, jix, jdv, jrd]))
set_option maxHeartbeats 20000 in
theorem e_X11_isLetter (s : jS) (x0 : Int) : m_X11_isLetter s x0 = some (if (x0 < 97) ∧ (¬ (x0 < 65) ∧ (¬ (90 < x0))) ∨ ¬ (x0 < 97) ∧ (¬ (122 < x0) ∨ (¬ (x0 < 65) ∧ (¬ (90 < x0)))) then 1 else 0) := by
  rw [em_X11_isLetter]; unfold dm_X11_isLetter
  all_goals first | rfl | ((try simp (disch := grind) only [eu_X11_isLetter_12, du_X11_isLetter_12, Option.bind_some, jlet, Wz_0, Wz_1, Wz_if, L_cmp_0, L_cmp_lt, L_cmp_gt]); all_goals (first | rfl | ((by_cases hP : ((x0 < 97) ∧ (¬ (x0 < 65) ∧ (¬ (90 < x0))) ∨ ¬ (x0 < 97) ∧ (¬ (122 < x0) ∨ (¬ (x0 < 65) ∧ (¬ (90 < x0)))))) <;> (first | rw [if_pos hP] | rw [if_neg hP]) <;> (try simp only [jlt, jix, jdv, jrd, Option.bind_some]) <;> (repeat' split) <;> first | rfl | (exfalso; omega) | (simp_all; done) | (simp_all; omega)) | grind (splits := 40) [jlt, jix, jdv, jrd]))
set_option maxHeartbeats 20000 in
theorem e_X11_isDigit (s : jS) (x0 : Int) : m_X11_isDigit s x0 = some (if ¬ (x0 < 48) ∧ (¬ (57 < x0)) then 1 else 0) := by
  rw [em_X11_isDigit]; unfold dm_X11_isDigit
  all_goals first | rfl | ((try simp (disch := grind) only [Option.bind_some, jlet, Wz_0, Wz_1, Wz_if, L_cmp_0, L_cmp_lt, L_cmp_gt]); all_goals (first | rfl | ((by_cases hP : (¬ (x0 < 48) ∧ (¬ (57 < x0)))) <;> (first | rw [if_pos hP] | rw [if_neg hP]) <;> (try simp only [jlt, jix, jdv, jrd, Option.bind_some]) <;> (repeat' split) <;> first | rfl | (exfalso; omega) | (simp_all; done) | (simp_all; omega)) | grind (splits := 40) [jlt, jix, jdv, jrd]))
def v_X11_hexOf (x0 : Int) : Int := if ¬ (x0 < 48) ∧ (¬ (57 < x0)) then (W32 (x0 - 48)) else if x0 < 97 then if x0 < 65 then 16 else if 70 < x0 then 16 else (W32 ((W32 (x0 - 65)) + 10)) else if 102 < x0 then if x0 < 65 then 16 else if 70 < x0 then 16 else (W32 ((W32 (x0 - 65)) + 10)) else (W32 ((W32 (x0 - 97)) + 10))
set_option maxHeartbeats 20000 in
theorem e_X11_hexOf (s : jS) (x0 : Int) : m_X11_hexOf s x0 = some (v_X11_hexOf x0) := by
  rw [em_X11_hexOf]; unfold dm_X11_hexOf
  unfold v_X11_hexOf
  repeat' (first | refine jite (fun _ => ?_) (fun _ => ?_) | rw [jz] | rw [Option.bind_some] | rw [e_X11_isDigit] | (rw [eu_X11_hexOf_36]; unfold du_X11_hexOf_36))
  all_goals first | rfl | ((try simp (disch := grind) only [eu_X11_hexOf_36, du_X11_hexOf_36, e_X11_isDigit, Option.bind_some, jlet, Wz_0, Wz_1, Wz_if, L_cmp_0, L_cmp_lt, L_cmp_gt]); all_goals (first | rfl | (simp only [v_X11_hexOf, apply_ite some]; done) | ((try simp only [jlt, jix, jdv, jrd, Option.bind_some]); ((repeat' split) <;> first | rfl | omega | (simp_all; done) | (simp_all; omega)); done) | grind (splits := 40) [jlt, jix, jdv, jrd, v_X11_hexOf]))
def v_X11_sortOf (x0 : Int) : Int := if x0 = 37 then 16 else if x0 = 38 then 19 else if x0 = 42 then 14 else if x0 = 43 then 12 else if x0 = 45 then 13 else if x0 = 47 then 15 else if x0 = 94 then 20 else if x0 = 124 then 21 else if x0 = 256 then 17 else if x0 = 257 then 18 else (-1)
set_option maxHeartbeats 20000 in
theorem e_X11_sortOf (s : jS) (x0 : Int) : m_X11_sortOf s x0 = some (v_X11_sortOf x0) := by
  rw [em_X11_sortOf]; unfold dm_X11_sortOf
  unfold v_X11_sortOf
  repeat' (first | refine jite (fun _ => ?_) (fun _ => ?_) | rw [jz] | rw [Option.bind_some])
  all_goals first | rfl | ((try simp (disch := grind) only [Option.bind_some, jlet, Wz_0, Wz_1, Wz_if, L_cmp_0, L_cmp_lt, L_cmp_gt]); all_goals (first | rfl | (simp only [v_X11_sortOf, apply_ite some]; done) | ((try simp only [jlt, jix, jdv, jrd, Option.bind_some]); ((repeat' split) <;> first | rfl | omega | (simp_all; done) | (simp_all; omega)); done) | grind (splits := 40) [jlt, jix, jdv, jrd, v_X11_sortOf]))
set_option maxHeartbeats 20000 in
theorem e_X11_bindsOf (s : jS) (x0 : Int) : m_X11_bindsOf s x0 = some (if x0 = 21 then 1 else if x0 = 20 then 2 else if x0 = 19 then 3 else if 16 < x0 then 4 else if x0 < 14 then 5 else 6) := by
  rw [em_X11_bindsOf]; unfold dm_X11_bindsOf
  repeat' (first | refine jite (fun _ => ?_) (fun _ => ?_) | rw [jz] | rw [Option.bind_some])
  all_goals first | rfl | ((try simp (disch := grind) only [Option.bind_some, jlet, Wz_0, Wz_1, Wz_if, L_cmp_0, L_cmp_lt, L_cmp_gt]); all_goals (first | rfl | (simp only [apply_ite some]; done) | ((try simp only [jlt, jix, jdv, jrd, Option.bind_some]); ((repeat' split) <;> first | rfl | omega | (simp_all; done) | (simp_all; omega)); done) | grind (splits := 40) [jlt, jix, jdv, jrd]))
set_option maxHeartbeats 20000 in
theorem e_X11_fault (s : jS) (x0 x1 : Int) : m_X11_fault s x0 x1 = some (if x1 = 0 then (jf s 15 x0 3) else if x1 = 1 then (jf s 15 x0 4) else (-1)) := by
  rw [em_X11_fault]; unfold dm_X11_fault
  repeat' (first | refine jite (fun _ => ?_) (fun _ => ?_) | rw [jz] | rw [Option.bind_some])
  all_goals first | rfl | ((try simp (disch := grind) only [Option.bind_some, jlet, Wz_0, Wz_1, Wz_if, L_cmp_0, L_cmp_lt, L_cmp_gt]); all_goals (first | rfl | (simp only [apply_ite some]; done) | ((try simp only [jlt, jix, jdv, jrd, Option.bind_some]); ((repeat' split) <;> first | rfl | omega | (simp_all; done) | (simp_all; omega)); done) | grind (splits := 40) [jlt, jix, jdv, jrd]))
def v_X11_count (s : jS) (x0 x1 : Int) : Int := if x1 = 0 then (jf s 16 (jf s 15 x0 5) 5) else if x1 = 1 then (jf s 16 (jf s 15 x0 5) 6) else if x1 = 2 then (jf s 16 (jf s 15 x0 5) 7) else if x1 = 3 then (jf s 16 (jf s 15 x0 5) 8) else (-1)
set_option maxHeartbeats 20000 in
theorem e_X11_count (s : jS) (x0 x1 : Int) (h0 : x1 = 0 → (0 ≤ (jf s 15 x0 5) ∧ jK s (jf s 15 x0 5) = 16)) (h1 : ¬ (x1 = 0) → x1 = 1 → (0 ≤ (jf s 15 x0 5) ∧ jK s (jf s 15 x0 5) = 16)) (h2 : ¬ (x1 = 0) → ¬ (x1 = 1) → x1 = 2 → (0 ≤ (jf s 15 x0 5) ∧ jK s (jf s 15 x0 5) = 16)) (h3 : ¬ (x1 = 0) → ¬ (x1 = 1) → ¬ (x1 = 2) → x1 = 3 → (0 ≤ (jf s 15 x0 5) ∧ jK s (jf s 15 x0 5) = 16)) : m_X11_count s x0 x1 = some (v_X11_count s x0 x1) := by
  rw [em_X11_count]; unfold dm_X11_count
  unfold v_X11_count
  repeat' (first | refine jite (fun _ => ?_) (fun _ => ?_) | rw [jz] | rw [Option.bind_some])
  all_goals first | rfl | ((try simp (disch := grind) only [Option.bind_some, jlet, Wz_0, Wz_1, Wz_if, L_cmp_0, L_cmp_lt, L_cmp_gt]); all_goals (first | rfl | (simp only [v_X11_count, apply_ite some]; done) | ((try simp only [jlt, jix, jdv, jrd, Option.bind_some]); ((repeat' split) <;> first | rfl | omega | (simp_all; done) | (simp_all; omega)); done) | grind (splits := 40) [jlt, jix, jdv, jrd, v_X11_count]))
set_option maxHeartbeats 20000 in
theorem e_X13_in (s : jS) (x0 x1 x2 : Int) : m_X13_in s x0 x1 x2 = some (if ¬ (x0 < x1) ∧ (¬ (x2 < x0)) then 1 else 0) := by
  rw [em_X13_in]; unfold dm_X13_in
  all_goals first | rfl | ((try simp (disch := grind) only [Option.bind_some, jlet, Wz_0, Wz_1, Wz_if, L_cmp_0, L_cmp_lt, L_cmp_gt]); all_goals (first | rfl | ((by_cases hP : (¬ (x0 < x1) ∧ (¬ (x2 < x0)))) <;> (first | rw [if_pos hP] | rw [if_neg hP]) <;> (try simp only [jlt, jix, jdv, jrd, Option.bind_some]) <;> (repeat' split) <;> first | rfl | (exfalso; omega) | (simp_all; done) | (simp_all; omega)) | grind (splits := 40) [jlt, jix, jdv, jrd]))
set_option maxHeartbeats 20000 in
theorem e_X13_size (s : jS) (x0 : Int) : m_X13_size s x0 = some ((jf s 23 (x0 + 1229) 1)) := by
  rw [em_X13_size]; unfold dm_X13_size
  repeat' (first | refine jite (fun _ => ?_) (fun _ => ?_) | rw [jz] | rw [Option.bind_some])
  all_goals first | rfl | ((try simp (disch := grind) only [Option.bind_some, jlet, Wz_0, Wz_1, Wz_if, L_cmp_0, L_cmp_lt, L_cmp_gt]); all_goals (first | rfl | (simp only [apply_ite some]; done) | ((try simp only [jlt, jix, jdv, jrd, Option.bind_some]); ((repeat' split) <;> first | rfl | omega | (simp_all; done) | (simp_all; omega)); done) | grind (splits := 40) [jlt, jix, jdv, jrd]))
set_option maxHeartbeats 20000 in
theorem e_X13_startAt (s : jS) (x0 x1 : Int) (h0 : (¬ (x1 < 0) ∧ (¬ ((W32 ((jf s 18 (x0 + 614) 2) - 1)) < x1))) → (0 ≤ x1 ∧ x1 < 1024)) : m_X13_startAt s x0 x1 = some (if ¬ (x1 < 0) ∧ (¬ ((W32 ((jf s 18 (x0 + 614) 2) - 1)) < x1)) then (jf s 1003 ((x0 + 614) + 2) x1) else (-1)) := by
  rw [em_X13_startAt]; unfold dm_X13_startAt
  repeat' (first | refine jite (fun _ => ?_) (fun _ => ?_) | rw [jz] | rw [Option.bind_some] | rw [e_X13_in])
  all_goals first | rfl | ((try simp (disch := grind) only [e_X13_in, Option.bind_some, jlet, Wz_0, Wz_1, Wz_if, L_cmp_0, L_cmp_lt, L_cmp_gt]); all_goals (first | rfl | (simp only [apply_ite some]; done) | ((try simp only [jlt, jix, jdv, jrd, Option.bind_some]); ((repeat' split) <;> first | rfl | omega | (simp_all; done) | (simp_all; omega)); done) | grind (splits := 40) [jlt, jix, jdv, jrd]))
set_option maxHeartbeats 20000 in
theorem e_X13_place (s : jS) (x0 : Int) : m_X13_place s x0 = some ((jf s 17 x0 6)) := by
  rw [em_X13_place]; unfold dm_X13_place
  repeat' (first | refine jite (fun _ => ?_) (fun _ => ?_) | rw [jz] | rw [Option.bind_some])
  all_goals first | rfl | ((try simp (disch := grind) only [Option.bind_some, jlet, Wz_0, Wz_1, Wz_if, L_cmp_0, L_cmp_lt, L_cmp_gt]); all_goals (first | rfl | (simp only [apply_ite some]; done) | ((try simp only [jlt, jix, jdv, jrd, Option.bind_some]); ((repeat' split) <;> first | rfl | omega | (simp_all; done) | (simp_all; omega)); done) | grind (splits := 40) [jlt, jix, jdv, jrd]))
set_option maxHeartbeats 20000 in
theorem e_X13_isAlignment (s : jS) (x0 : Int) : m_X13_isAlignment s x0 = some (if (0 < x0) ∧ (¬ (64 < x0) ∧ ((L_and x0 (W64 (x0 - 1))) = 0)) then 1 else 0) := by
  rw [em_X13_isAlignment]; unfold dm_X13_isAlignment
  all_goals first | rfl | ((try simp (disch := grind) only [Option.bind_some, jlet, Wz_0, Wz_1, Wz_if, L_cmp_0, L_cmp_lt, L_cmp_gt]); all_goals (first | rfl | ((by_cases hP : ((0 < x0) ∧ (¬ (64 < x0) ∧ ((L_and x0 (W64 (x0 - 1))) = 0)))) <;> (first | rw [if_pos hP] | rw [if_neg hP]) <;> (try simp only [jlt, jix, jdv, jrd, Option.bind_some]) <;> (repeat' split) <;> first | rfl | (exfalso; omega) | (simp_all; done) | (simp_all; omega)) | grind (splits := 40) [jlt, jix, jdv, jrd]))
set_option maxHeartbeats 20000 in
theorem e_X13_isMoves (s : jS) (x0 : Int) : m_X13_isMoves s x0 = some (if ¬ (x0 < 6) ∧ (¬ (8 < x0)) then 1 else 0) := by
  rw [em_X13_isMoves]; unfold dm_X13_isMoves
  all_goals first | rfl | ((try simp (disch := grind) only [e_X13_in, Option.bind_some, jlet, Wz_0, Wz_1, Wz_if, L_cmp_0, L_cmp_lt, L_cmp_gt]); all_goals (first | rfl | ((by_cases hP : (¬ (x0 < 6) ∧ (¬ (8 < x0)))) <;> (first | rw [if_pos hP] | rw [if_neg hP]) <;> (try simp only [jlt, jix, jdv, jrd, Option.bind_some]) <;> (repeat' split) <;> first | rfl | (exfalso; omega) | (simp_all; done) | (simp_all; omega)) | grind (splits := 40) [jlt, jix, jdv, jrd]))
def v_X13_nameOf (s : jS) (x0 : Int) : Int := if x0 = 1 then (jc s 171) else if x0 = 2 then (jc s 172) else if x0 = 3 then (jc s 173) else if x0 = 4 then (jc s 174) else if x0 = 5 then (jc s 175) else if x0 = 6 then (jc s 176) else if x0 = 7 then (jc s 177) else if x0 = 8 then (jc s 178) else if x0 = 9 then (jc s 179) else if x0 = 10 then (jc s 180) else (jc s 181)
set_option maxHeartbeats 20000 in
theorem e_X13_nameOf (s : jS) (x0 : Int) : m_X13_nameOf s x0 = some (v_X13_nameOf s x0) := by
  rw [em_X13_nameOf]; unfold dm_X13_nameOf
  unfold v_X13_nameOf
  repeat' (first | refine jite (fun _ => ?_) (fun _ => ?_) | rw [jz] | rw [Option.bind_some])
  all_goals first | rfl | ((try simp (disch := grind) only [Option.bind_some, jlet, Wz_0, Wz_1, Wz_if, L_cmp_0, L_cmp_lt, L_cmp_gt]); all_goals (first | rfl | (simp only [v_X13_nameOf, apply_ite some]; done) | ((try simp only [jlt, jix, jdv, jrd, Option.bind_some]); ((repeat' split) <;> first | rfl | omega | (simp_all; done) | (simp_all; omega)); done) | grind (splits := 40) [jlt, jix, jdv, jrd, v_X13_nameOf]))
set_option maxHeartbeats 20000 in
theorem e_X13_sortOf (s : jS) (x0 : Int) : m_X13_sortOf s x0 = some (if x0 = 4 then 8 else if x0 < 6 then 1 else if ¬ (x0 < 6) ∧ (¬ (8 < x0)) then 4 else if x0 = 9 then 2 else 3) := by
  rw [em_X13_sortOf]; unfold dm_X13_sortOf
  repeat' (first | refine jite (fun _ => ?_) (fun _ => ?_) | rw [jz] | rw [Option.bind_some] | rw [e_X13_isMoves])
  all_goals first | rfl | ((try simp (disch := grind) only [e_X13_isMoves, Option.bind_some, jlet, Wz_0, Wz_1, Wz_if, L_cmp_0, L_cmp_lt, L_cmp_gt]); all_goals (first | rfl | (simp only [apply_ite some]; done) | ((try simp only [jlt, jix, jdv, jrd, Option.bind_some]); ((repeat' split) <;> first | rfl | omega | (simp_all; done) | (simp_all; omega)); done) | grind (splits := 40) [jlt, jix, jdv, jrd]))
set_option maxHeartbeats 20000 in
theorem e_X13_flagsOf (s : jS) (x0 : Int) : m_X13_flagsOf s x0 = some (if x0 = 1 then 6 else if x0 = 2 then 2 else if x0 < 5 then 3 else if ¬ (x0 < 6) ∧ (¬ (8 < x0)) then 64 else 0) := by
  rw [em_X13_flagsOf]; unfold dm_X13_flagsOf
  repeat' (first | refine jite (fun _ => ?_) (fun _ => ?_) | rw [jz] | rw [Option.bind_some] | rw [e_X13_isMoves])
  all_goals first | rfl | ((try simp (disch := grind) only [e_X13_isMoves, Option.bind_some, jlet, Wz_0, Wz_1, Wz_if, L_cmp_0, L_cmp_lt, L_cmp_gt]); all_goals (first | rfl | (simp only [apply_ite some]; done) | ((try simp only [jlt, jix, jdv, jrd, Option.bind_some]); ((repeat' split) <;> first | rfl | omega | (simp_all; done) | (simp_all; omega)); done) | grind (splits := 40) [jlt, jix, jdv, jrd]))
set_option maxHeartbeats 20000 in
theorem e_X13_eachOf (s : jS) (x0 : Int) : m_X13_eachOf s x0 = some (if x0 = 5 then 2 else if ¬ (x0 < 6) ∧ (¬ (8 < x0)) then 12 else if x0 = 9 then 16 else 0) := by
  rw [em_X13_eachOf]; unfold dm_X13_eachOf
  repeat' (first | refine jite (fun _ => ?_) (fun _ => ?_) | rw [jz] | rw [Option.bind_some] | rw [e_X13_isMoves])
  all_goals first | rfl | ((try simp (disch := grind) only [e_X13_isMoves, Option.bind_some, jlet, Wz_0, Wz_1, Wz_if, L_cmp_0, L_cmp_lt, L_cmp_gt]); all_goals (first | rfl | (simp only [apply_ite some]; done) | ((try simp only [jlt, jix, jdv, jrd, Option.bind_some]); ((repeat' split) <;> first | rfl | omega | (simp_all; done) | (simp_all; omega)); done) | grind (splits := 40) [jlt, jix, jdv, jrd]))
set_option maxHeartbeats 20000 in
theorem e_X14_room (s : jS) (x0 x1 : Int) (h0 : (0 ≤ x1 ∧ x1 < 4)) : m_X14_room s x0 x1 = some ((jf s 19 ((x0 + 1) + 4 + 2 * x1) 1)) := by
  rw [em_X14_room]; unfold dm_X14_room
  repeat' (first | refine jite (fun _ => ?_) (fun _ => ?_) | rw [jz] | rw [Option.bind_some])
  all_goals first | rfl | ((try simp (disch := grind) only [Option.bind_some, jlet, Wz_0, Wz_1, Wz_if, L_cmp_0, L_cmp_lt, L_cmp_gt]); all_goals (first | rfl | (simp only [apply_ite some]; done) | ((try simp only [jlt, jix, jdv, jrd, Option.bind_some]); ((repeat' split) <;> first | rfl | omega | (simp_all; done) | (simp_all; omega)); done) | grind (splits := 40) [jlt, jix, jdv, jrd]))
set_option maxHeartbeats 20000 in
theorem e_X14_isShort (s : jS) (x0 x1 : Int) (h0 : (0 ≤ x1 ∧ x1 < 1024)) (h1 : (0 ≤ (jf s 1003 (x0 + 2) x1) ∧ (jf s 1003 (x0 + 2) x1) < (jN s (((x0 + 1) + 4 + 2 * 0) + 1)))) : m_X14_isShort s x0 x1 = some (if ¬ ((I_and (jf s 1001 (((x0 + 1) + 4 + 2 * 0) + 1) (jf s 1003 (x0 + 2) x1)) 3) = 3) then 1 else 0) := by
  rw [em_X14_isShort]; unfold dm_X14_isShort
  all_goals first | rfl | ((try simp (disch := grind) only [Option.bind_some, jlet, Wz_0, Wz_1, Wz_if, L_cmp_0, L_cmp_lt, L_cmp_gt]); all_goals (first | rfl | ((by_cases hP : (¬ ((I_and (jf s 1001 (((x0 + 1) + 4 + 2 * 0) + 1) (jf s 1003 (x0 + 2) x1)) 3) = 3))) <;> (first | rw [if_pos hP] | rw [if_neg hP]) <;> (try simp only [jlt, jix, jdv, jrd, Option.bind_some]) <;> (repeat' split) <;> first | rfl | (exfalso; omega) | (simp_all; done) | (simp_all; omega)) | grind (splits := 40) [jlt, jix, jdv, jrd]))
def v_X16_tell (s : jS) (x0 x1 : Int) : Int := if x1 = 0 then (jf s 20 x0 1) else if x1 = 1 then (jf s 20 x0 2) else if x1 = 2 then (jf s 20 x0 3) else if x1 = 3 then (jf s 20 x0 4) else if x1 = 4 then (jf s 20 x0 5) else if x1 = 5 then (jf s 21 (x0 + 1) 1) else if ¬ ((W32 (x1 - 6)) < 0) ∧ (¬ ((W32 ((jf s 21 (x0 + 1) 1) - 1)) < (W32 (x1 - 6)))) then (jf s 1001 ((x0 + 1) + 1) (W32 (x1 - 6))) else (-1)
set_option maxHeartbeats 20000 in
theorem e_X16_tell (s : jS) (x0 x1 : Int) (h0 : ¬ (x1 = 0) → ¬ (x1 = 1) → ¬ (x1 = 2) → ¬ (x1 = 3) → ¬ (x1 = 4) → ¬ (x1 = 5) → (¬ ((W32 (x1 - 6)) < 0) ∧ (¬ ((W32 ((jf s 21 (x0 + 1) 1) - 1)) < (W32 (x1 - 6))))) → (0 ≤ (W32 (x1 - 6)) ∧ (W32 (x1 - 6)) < 16)) : m_X16_tell s x0 x1 = some (v_X16_tell s x0 x1) := by
  rw [em_X16_tell]; unfold dm_X16_tell
  unfold v_X16_tell
  repeat' (first | refine jite (fun _ => ?_) (fun _ => ?_) | rw [jz] | rw [Option.bind_some] | rw [e_X13_in])
  all_goals first | rfl | ((try simp (disch := grind) only [e_X13_in, Option.bind_some, jlet, Wz_0, Wz_1, Wz_if, L_cmp_0, L_cmp_lt, L_cmp_gt]); all_goals (first | rfl | (simp only [v_X16_tell, apply_ite some]; done) | ((try simp only [jlt, jix, jdv, jrd, Option.bind_some]); ((repeat' split) <;> first | rfl | omega | (simp_all; done) | (simp_all; omega)); done) | grind (splits := 40) [jlt, jix, jdv, jrd, v_X16_tell]))
def v_X16_wrong (s : jS) (x0 : Int) : Int := if (jf s 20 x0 1) = (-1) then if (jf s 20 x0 2) = 0 then if (jf s 20 x0 3) = 0 then if (jf s 20 x0 4) = 0 then 3 else 0 else 2 else 1 else if (jf s 20 x0 1) = 4 then if (jf s 20 x0 3) < 0 then 2 else 0 else if (jf s 20 x0 1) = 5 then if (0 < (jf s 20 x0 2)) ∧ (¬ (64 < (jf s 20 x0 2)) ∧ ((L_and (jf s 20 x0 2) (W64 ((jf s 20 x0 2) - 1))) = 0)) then if ¬ ((jf s 20 x0 3) < 1) ∧ (¬ (4096 < (jf s 20 x0 3))) then if (jf s 20 x0 4) = 1 then 0 else 3 else 2 else 1 else if (jf s 20 x0 2) < 0 then 1 else if (jf s 20 x0 3) < 0 then 2 else 0
set_option maxHeartbeats 20000 in
theorem e_X16_wrong (s : jS) (x0 : Int) : m_X16_wrong s x0 = some (v_X16_wrong s x0) := by
  rw [em_X16_wrong]; unfold dm_X16_wrong
  unfold v_X16_wrong
  repeat' (first | refine jite (fun _ => ?_) (fun _ => ?_) | rw [jz] | rw [Option.bind_some] | rw [e_X13_in] | rw [e_X13_isAlignment])
  all_goals first | rfl | ((try simp (disch := grind) only [e_X13_in, e_X13_isAlignment, Option.bind_some, jlet, Wz_0, Wz_1, Wz_if, L_cmp_0, L_cmp_lt, L_cmp_gt]); all_goals (first | rfl | (simp only [v_X16_wrong, apply_ite some]; done) | ((try simp only [jlt, jix, jdv, jrd, Option.bind_some]); ((repeat' split) <;> first | rfl | omega | (simp_all; done) | (simp_all; omega)); done) | grind (splits := 40) [jlt, jix, jdv, jrd, v_X16_wrong]))
set_option maxHeartbeats 20000 in
theorem e_X16_beyond (s : jS) (x0 x1 : Int) : m_X16_beyond s x0 x1 = some (if x1 < (jf s 20 x0 2) then 1 else if x1 < (W64 ((jf s 20 x0 2) + (jf s 20 x0 3))) then 2 else 0) := by
  rw [em_X16_beyond]; unfold dm_X16_beyond
  repeat' (first | refine jite (fun _ => ?_) (fun _ => ?_) | rw [jz] | rw [Option.bind_some])
  all_goals first | rfl | ((try simp (disch := grind) only [Option.bind_some, jlet, Wz_0, Wz_1, Wz_if, L_cmp_0, L_cmp_lt, L_cmp_gt]); all_goals (first | rfl | (simp only [apply_ite some]; done) | ((try simp only [jlt, jix, jdv, jrd, Option.bind_some]); ((repeat' split) <;> first | rfl | omega | (simp_all; done) | (simp_all; omega)); done) | grind (splits := 40) [jlt, jix, jdv, jrd]))
def v_X18_tell (s : jS) (x0 x1 : Int) : Int := if x1 = 0 then (jf s 22 x0 0) else if x1 = 1 then (jf s 22 x0 1) else if x1 = 2 then (jf s 22 x0 2) else if x1 = 3 then (jf s 22 x0 3) else if x1 = 4 then (jf s 22 x0 4) else (-1)
set_option maxHeartbeats 20000 in
theorem e_X18_tell (s : jS) (x0 x1 : Int) : m_X18_tell s x0 x1 = some (v_X18_tell s x0 x1) := by
  rw [em_X18_tell]; unfold dm_X18_tell
  unfold v_X18_tell
  repeat' (first | refine jite (fun _ => ?_) (fun _ => ?_) | rw [jz] | rw [Option.bind_some])
  all_goals first | rfl | ((try simp (disch := grind) only [Option.bind_some, jlet, Wz_0, Wz_1, Wz_if, L_cmp_0, L_cmp_lt, L_cmp_gt]); all_goals (first | rfl | (simp only [v_X18_tell, apply_ite some]; done) | ((try simp only [jlt, jix, jdv, jrd, Option.bind_some]); ((repeat' split) <;> first | rfl | omega | (simp_all; done) | (simp_all; omega)); done) | grind (splits := 40) [jlt, jix, jdv, jrd, v_X18_tell]))
set_option maxHeartbeats 20000 in
theorem e_X19_u1 (s : jS) (x0 x1 : Int) (h0 : (0 ≤ x1 ∧ x1 < (jN s (x0 + 1)))) : m_X19_u1 s x0 x1 = some ((I_and (jf s 1001 (x0 + 1) x1) 255)) := by
  rw [em_X19_u1]; unfold dm_X19_u1
  repeat' (first | refine jite (fun _ => ?_) (fun _ => ?_) | rw [jz] | rw [Option.bind_some])
  all_goals first | rfl | ((try simp (disch := grind) only [Option.bind_some, jlet, Wz_0, Wz_1, Wz_if, L_cmp_0, L_cmp_lt, L_cmp_gt]); all_goals (first | rfl | (simp only [apply_ite some]; done) | ((try simp only [jlt, jix, jdv, jrd, Option.bind_some]); ((repeat' split) <;> first | rfl | omega | (simp_all; done) | (simp_all; omega)); done) | grind (splits := 40) [jlt, jix, jdv, jrd]))
set_option maxHeartbeats 20000 in
theorem e_X19_u2 (s : jS) (x0 x1 : Int) (h0 : (0 ≤ x1 ∧ x1 < (jN s (x0 + 1)))) (h1 : (0 ≤ (W32 (x1 + 1)) ∧ (W32 (x1 + 1)) < (jN s (x0 + 1)))) : m_X19_u2 s x0 x1 = some ((I_or (I_and (jf s 1001 (x0 + 1) x1) 255) (I_shl (I_and (jf s 1001 (x0 + 1) (W32 (x1 + 1))) 255) 8))) := by
  rw [em_X19_u2]; unfold dm_X19_u2
  repeat' (first | refine jite (fun _ => ?_) (fun _ => ?_) | rw [jz] | rw [Option.bind_some])
  all_goals first | rfl | ((try simp (disch := grind) only [e_X19_u1, Option.bind_some, jlet, Wz_0, Wz_1, Wz_if, L_cmp_0, L_cmp_lt, L_cmp_gt]); all_goals (first | rfl | (simp only [apply_ite some]; done) | ((try simp only [jlt, jix, jdv, jrd, Option.bind_some]); ((repeat' split) <;> first | rfl | omega | (simp_all; done) | (simp_all; omega)); done) | grind (splits := 40) [jlt, jix, jdv, jrd]))
def v_X19_s4 (s : jS) (x0 x1 : Int) : Int := (I_or (I_or (I_and (jf s 1001 (x0 + 1) x1) 255) (I_shl (I_and (jf s 1001 (x0 + 1) (W32 (x1 + 1))) 255) 8)) (I_shl (I_or (I_and (jf s 1001 (x0 + 1) (W32 (x1 + 2))) 255) (I_shl (I_and (jf s 1001 (x0 + 1) (W32 ((W32 (x1 + 2)) + 1))) 255) 8)) 16))
set_option maxHeartbeats 20000 in
theorem e_X19_s4 (s : jS) (x0 x1 : Int) (h0 : (0 ≤ x1 ∧ x1 < (jN s (x0 + 1)))) (h1 : (0 ≤ (W32 (x1 + 1)) ∧ (W32 (x1 + 1)) < (jN s (x0 + 1)))) (h2 : (0 ≤ (W32 (x1 + 2)) ∧ (W32 (x1 + 2)) < (jN s (x0 + 1)))) (h3 : (0 ≤ (W32 ((W32 (x1 + 2)) + 1)) ∧ (W32 ((W32 (x1 + 2)) + 1)) < (jN s (x0 + 1)))) : m_X19_s4 s x0 x1 = some (v_X19_s4 s x0 x1) := by
  rw [em_X19_s4]; unfold dm_X19_s4
  unfold v_X19_s4
  repeat' (first | refine jite (fun _ => ?_) (fun _ => ?_) | rw [jz] | rw [Option.bind_some])
  all_goals first | rfl | ((try simp (disch := grind) only [e_X19_u2, Option.bind_some, jlet, Wz_0, Wz_1, Wz_if, L_cmp_0, L_cmp_lt, L_cmp_gt]); all_goals (first | rfl | (simp only [v_X19_s4, apply_ite some]; done) | ((try simp only [jlt, jix, jdv, jrd, Option.bind_some]); ((repeat' split) <;> first | rfl | omega | (simp_all; done) | (simp_all; omega)); done) | grind (splits := 40) [jlt, jix, jdv, jrd, v_X19_s4]))
set_option maxHeartbeats 20000 in
theorem e_X20_whereOf (s : jS) (x0 x1 : Int) (h0 : ¬ (x1 = (-1)) → ¬ (x1 = 4) → ¬ (x1 = 5) → (0 ≤ (W32 (x1 + 1)) ∧ (W32 (x1 + 1)) < 12)) : m_X20_whereOf s x0 x1 = some (if x1 = (-1) then 0 else if x1 = 4 then 65521 else if x1 = 5 then 65522 else (jf s 1000 (x0 + 3) (W32 (x1 + 1)))) := by
  rw [em_X20_whereOf]; unfold dm_X20_whereOf
  repeat' (first | refine jite (fun _ => ?_) (fun _ => ?_) | rw [jz] | rw [Option.bind_some])
  all_goals first | rfl | ((try simp (disch := grind) only [Option.bind_some, jlet, Wz_0, Wz_1, Wz_if, L_cmp_0, L_cmp_lt, L_cmp_gt]); all_goals (first | rfl | (simp only [apply_ite some]; done) | ((try simp only [jlt, jix, jdv, jrd, Option.bind_some]); ((repeat' split) <;> first | rfl | omega | (simp_all; done) | (simp_all; omega)); done) | grind (splits := 40) [jlt, jix, jdv, jrd]))
set_option maxHeartbeats 20000 in
theorem e_X21_field (s : jS) (x0 x1 x2 : Int) : m_X21_field s x0 x1 x2 = some ((W32 ((W32 ((jf s 25 x0 2) + (W32 (40 * x1)))) + (W32 (4 * x2))))) := by
  rw [em_X21_field]; unfold dm_X21_field
  repeat' (first | refine jite (fun _ => ?_) (fun _ => ?_) | rw [jz] | rw [Option.bind_some])
  all_goals first | rfl | ((try simp (disch := grind) only [Option.bind_some, jlet, Wz_0, Wz_1, Wz_if, L_cmp_0, L_cmp_lt, L_cmp_gt]); all_goals (first | rfl | (simp only [apply_ite some]; done) | ((try simp only [jlt, jix, jdv, jrd, Option.bind_some]); ((repeat' split) <;> first | rfl | omega | (simp_all; done) | (simp_all; omega)); done) | grind (splits := 40) [jlt, jix, jdv, jrd]))
set_option maxHeartbeats 20000 in
theorem e_X21_meets (s : jS) (x0 x1 x2 x3 x4 : Int) : m_X21_meets s x0 x1 x2 x3 x4 = some (if (x1 < (W32 (x3 + x4))) ∧ (x3 < (W32 (x1 + x2))) then 1 else 0) := by
  rw [em_X21_meets]; unfold dm_X21_meets
  all_goals first | rfl | ((try simp (disch := grind) only [Option.bind_some, jlet, Wz_0, Wz_1, Wz_if, L_cmp_0, L_cmp_lt, L_cmp_gt]); all_goals (first | rfl | ((by_cases hP : ((x1 < (W32 (x3 + x4))) ∧ (x3 < (W32 (x1 + x2))))) <;> (first | rw [if_pos hP] | rw [if_neg hP]) <;> (try simp only [jlt, jix, jdv, jrd, Option.bind_some]) <;> (repeat' split) <;> first | rfl | (exfalso; omega) | (simp_all; done) | (simp_all; omega)) | grind (splits := 40) [jlt, jix, jdv, jrd]))
set_option maxHeartbeats 20000 in
theorem e_X22_in (s : jS) (x0 x2 x4 : Int) : m_X22_in s x0 x2 x4 = some (if ¬ (x0 < x2) ∧ (¬ (x4 < x0)) then 1 else 0) := by
  rw [em_X22_in]; unfold dm_X22_in
  all_goals first | rfl | ((try simp (disch := grind) only [Option.bind_some, jlet, Wz_0, Wz_1, Wz_if, L_cmp_0, L_cmp_lt, L_cmp_gt]); all_goals (first | rfl | ((by_cases hP : (¬ (x0 < x2) ∧ (¬ (x4 < x0)))) <;> (first | rw [if_pos hP] | rw [if_neg hP]) <;> (try simp only [jlt, jix, jdv, jrd, Option.bind_some]) <;> (repeat' split) <;> first | rfl | (exfalso; omega) | (simp_all; done) | (simp_all; omega)) | grind (splits := 40) [jlt, jix, jdv, jrd]))
set_option maxHeartbeats 20000 in
theorem e_X22_size (s : jS) (x0 : Int) : m_X22_size s x0 = some ((jf s 29 (x0 + 19) 1)) := by
  rw [em_X22_size]; unfold dm_X22_size
  repeat' (first | refine jite (fun _ => ?_) (fun _ => ?_) | rw [jz] | rw [Option.bind_some])
  all_goals first | rfl | ((try simp (disch := grind) only [Option.bind_some, jlet, Wz_0, Wz_1, Wz_if, L_cmp_0, L_cmp_lt, L_cmp_gt]); all_goals (first | rfl | (simp only [apply_ite some]; done) | ((try simp only [jlt, jix, jdv, jrd, Option.bind_some]); ((repeat' split) <;> first | rfl | omega | (simp_all; done) | (simp_all; omega)); done) | grind (splits := 40) [jlt, jix, jdv, jrd]))
set_option maxHeartbeats 20000 in
theorem e_X22_place (s : jS) (x0 : Int) : m_X22_place s x0 = some ((jf s 26 x0 5)) := by
  rw [em_X22_place]; unfold dm_X22_place
  repeat' (first | refine jite (fun _ => ?_) (fun _ => ?_) | rw [jz] | rw [Option.bind_some])
  all_goals first | rfl | ((try simp (disch := grind) only [Option.bind_some, jlet, Wz_0, Wz_1, Wz_if, L_cmp_0, L_cmp_lt, L_cmp_gt]); all_goals (first | rfl | (simp only [apply_ite some]; done) | ((try simp only [jlt, jix, jdv, jrd, Option.bind_some]); ((repeat' split) <;> first | rfl | omega | (simp_all; done) | (simp_all; omega)); done) | grind (splits := 40) [jlt, jix, jdv, jrd]))
set_option maxHeartbeats 20000 in
theorem e_X22_isSegment (s : jS) (x0 : Int) : m_X22_isSegment s x0 = some (if ¬ (x0 < 0) ∧ (x0 < 3) then 1 else 0) := by
  rw [em_X22_isSegment]; unfold dm_X22_isSegment
  all_goals first | rfl | ((try simp (disch := grind) only [Option.bind_some, jlet, Wz_0, Wz_1, Wz_if, L_cmp_0, L_cmp_lt, L_cmp_gt]); all_goals (first | rfl | ((by_cases hP : (¬ (x0 < 0) ∧ (x0 < 3))) <;> (first | rw [if_pos hP] | rw [if_neg hP]) <;> (try simp only [jlt, jix, jdv, jrd, Option.bind_some]) <;> (repeat' split) <;> first | rfl | (exfalso; omega) | (simp_all; done) | (simp_all; omega)) | grind (splits := 40) [jlt, jix, jdv, jrd]))
set_option maxHeartbeats 20000 in
theorem e_X22_rightsOf (s : jS) (x0 : Int) : m_X22_rightsOf s x0 = some (if x0 = 0 then 5 else if x0 = 1 then 4 else 6) := by
  rw [em_X22_rightsOf]; unfold dm_X22_rightsOf
  repeat' (first | refine jite (fun _ => ?_) (fun _ => ?_) | rw [jz] | rw [Option.bind_some])
  all_goals first | rfl | ((try simp (disch := grind) only [Option.bind_some, jlet, Wz_0, Wz_1, Wz_if, L_cmp_0, L_cmp_lt, L_cmp_gt]); all_goals (first | rfl | (simp only [apply_ite some]; done) | ((try simp only [jlt, jix, jdv, jrd, Option.bind_some]); ((repeat' split) <;> first | rfl | omega | (simp_all; done) | (simp_all; omega)); done) | grind (splits := 40) [jlt, jix, jdv, jrd]))
set_option maxHeartbeats 20000 in
theorem e_X23_text (s : jS) (x0 : Int) : m_X23_text s x0 = some (((x0 + 1) + 2 + 2 * 0)) := by
  rw [em_X23_text]; unfold dm_X23_text
  repeat' (first | refine jite (fun _ => ?_) (fun _ => ?_) | rw [jz] | rw [Option.bind_some])
  all_goals first | rfl | ((try simp (disch := grind) only [Option.bind_some, jlet, Wz_0, Wz_1, Wz_if, L_cmp_0, L_cmp_lt, L_cmp_gt]); all_goals (first | rfl | (simp only [apply_ite some]; done) | ((try simp only [jlt, jix, jdv, jrd, Option.bind_some]); ((repeat' split) <;> first | rfl | omega | (simp_all; done) | (simp_all; omega)); done) | grind (splits := 40) [jlt, jix, jdv, jrd]))
set_option maxHeartbeats 20000 in
theorem e_X23_places (s : jS) (x0 : Int) (h0 : (0 ≤ ((x0 + 1) + 2 + 2 * 0) ∧ jK s ((x0 + 1) + 2 + 2 * 0) = 28)) (h1 : ¬ ((jf s 28 ((x0 + 1) + 2 + 2 * 0) 2) = 0) → (0 ≤ ((x0 + 1) + 2 + 2 * 0) ∧ jK s ((x0 + 1) + 2 + 2 * 0) = 28)) : m_X23_places s x0 = some (if (jf s 28 ((x0 + 1) + 2 + 2 * 0) 2) = 0 then 0 else (I_div (jf s 28 ((x0 + 1) + 2 + 2 * 0) 4) 2)) := by
  rw [em_X23_places]; unfold dm_X23_places
  repeat' (first | refine jite (fun _ => ?_) (fun _ => ?_) | rw [jz] | rw [Option.bind_some] | rw [e_X23_text])
  all_goals first | rfl | ((try simp (disch := grind) only [e_X23_text, Option.bind_some, jlet, Wz_0, Wz_1, Wz_if, L_cmp_0, L_cmp_lt, L_cmp_gt]); all_goals (first | rfl | (simp only [apply_ite some]; done) | ((try simp only [jlt, jix, jdv, jrd, Option.bind_some]); ((repeat' split) <;> first | rfl | omega | (simp_all; done) | (simp_all; omega)); done) | grind (splits := 40) [jlt, jix, jdv, jrd]))
set_option maxHeartbeats 20000 in
theorem e_X23_markBytes (s : jS) (x0 : Int) (h0 : (0 ≤ ((x0 + 1) + 2 + 2 * 0) ∧ jK s ((x0 + 1) + 2 + 2 * 0) = 28)) : m_X23_markBytes s x0 = some ((I_div (W32 ((jf s 28 ((x0 + 1) + 2 + 2 * 0) 4) + 15)) 16)) := by
  rw [em_X23_markBytes]; unfold dm_X23_markBytes
  repeat' (first | refine jite (fun _ => ?_) (fun _ => ?_) | rw [jz] | rw [Option.bind_some] | rw [e_X23_text])
  all_goals first | rfl | ((try simp (disch := grind) only [e_X23_text, Option.bind_some, jlet, Wz_0, Wz_1, Wz_if, L_cmp_0, L_cmp_lt, L_cmp_gt]); all_goals (first | rfl | (simp only [apply_ite some]; done) | ((try simp only [jlt, jix, jdv, jrd, Option.bind_some]); ((repeat' split) <;> first | rfl | omega | (simp_all; done) | (simp_all; omega)); done) | grind (splits := 40) [jlt, jix, jdv, jrd]))
set_option maxHeartbeats 20000 in
theorem e_X24_end (s : jS) (x0 : Int) : m_X24_end s x0 = some ((W32 ((W32 ((jf s 28 x0 3) + (jf s 28 x0 4))) + (jf s 28 x0 5)))) := by
  rw [em_X24_end]; unfold dm_X24_end
  repeat' (first | refine jite (fun _ => ?_) (fun _ => ?_) | rw [jz] | rw [Option.bind_some])
  all_goals first | rfl | ((try simp (disch := grind) only [Option.bind_some, jlet, Wz_0, Wz_1, Wz_if, L_cmp_0, L_cmp_lt, L_cmp_gt]); all_goals (first | rfl | (simp only [apply_ite some]; done) | ((try simp only [jlt, jix, jdv, jrd, Option.bind_some]); ((repeat' split) <;> first | rfl | omega | (simp_all; done) | (simp_all; omega)); done) | grind (splits := 40) [jlt, jix, jdv, jrd]))
def v_X24_tell (s : jS) (x0 x1 : Int) : Int := if x1 = 0 then if (jf s 28 x0 2) = 0 then 0 else 1 else if (jf s 28 x0 2) = 0 then (-1) else if x1 = 1 then (jf s 28 x0 3) else if x1 = 2 then (jf s 28 x0 4) else if x1 = 3 then (jf s 28 x0 5) else (-1)
set_option maxHeartbeats 20000 in
theorem e_X24_tell (s : jS) (x0 x1 : Int) : m_X24_tell s x0 x1 = some (v_X24_tell s x0 x1) := by
  rw [em_X24_tell]; unfold dm_X24_tell
  unfold v_X24_tell
  repeat' (first | refine jite (fun _ => ?_) (fun _ => ?_) | rw [jz] | rw [Option.bind_some])
  all_goals first | rfl | ((try simp (disch := grind) only [Option.bind_some, jlet, Wz_0, Wz_1, Wz_if, L_cmp_0, L_cmp_lt, L_cmp_gt]); all_goals (first | rfl | (simp only [v_X24_tell, apply_ite some]; done) | ((try simp only [jlt, jix, jdv, jrd, Option.bind_some]); ((repeat' split) <;> first | rfl | omega | (simp_all; done) | (simp_all; omega)); done) | grind (splits := 40) [jlt, jix, jdv, jrd, v_X24_tell]))
set_option maxHeartbeats 20000 in
theorem e_X24_has (s : jS) (x0 x1 : Int) : m_X24_has s x0 x1 = some (if ¬ ((jf s 28 x0 2) = 0) ∧ (¬ (x1 < (jf s 28 x0 3)) ∧ (x1 < (W32 ((W32 ((jf s 28 x0 3) + (jf s 28 x0 4))) + (jf s 28 x0 5))))) then 1 else 0) := by
  rw [em_X24_has]; unfold dm_X24_has
  all_goals first | rfl | ((try simp (disch := grind) only [e_X24_end, Option.bind_some, jlet, Wz_0, Wz_1, Wz_if, L_cmp_0, L_cmp_lt, L_cmp_gt]); all_goals (first | rfl | ((by_cases hP : (¬ ((jf s 28 x0 2) = 0) ∧ (¬ (x1 < (jf s 28 x0 3)) ∧ (x1 < (W32 ((W32 ((jf s 28 x0 3) + (jf s 28 x0 4))) + (jf s 28 x0 5))))))) <;> (first | rw [if_pos hP] | rw [if_neg hP]) <;> (try simp only [jlt, jix, jdv, jrd, Option.bind_some]) <;> (repeat' split) <;> first | rfl | (exfalso; omega) | (simp_all; done) | (simp_all; omega)) | grind (splits := 40) [jlt, jix, jdv, jrd]))
set_option maxHeartbeats 20000 in
theorem e_X24_byteAt (s : jS) (x0 x1 : Int) (h0 : (W32 (x1 - (jf s 28 x0 3))) < (jf s 28 x0 4) → (0 ≤ (W32 (x1 - (jf s 28 x0 3))) ∧ (W32 (x1 - (jf s 28 x0 3))) < 4096)) : m_X24_byteAt s x0 x1 = some (if (W32 (x1 - (jf s 28 x0 3))) < (jf s 28 x0 4) then (I_and (jf s 1001 (x0 + 1) (W32 (x1 - (jf s 28 x0 3)))) 255) else 0) := by
  rw [em_X24_byteAt]; unfold dm_X24_byteAt
  repeat' (first | refine jite (fun _ => ?_) (fun _ => ?_) | rw [jz] | rw [Option.bind_some])
  all_goals first | rfl | ((try simp (disch := grind) only [Option.bind_some, jlet, Wz_0, Wz_1, Wz_if, L_cmp_0, L_cmp_lt, L_cmp_gt]); all_goals (first | rfl | (simp only [apply_ite some]; done) | ((try simp only [jlt, jix, jdv, jrd, Option.bind_some]); ((repeat' split) <;> first | rfl | omega | (simp_all; done) | (simp_all; omega)); done) | grind (splits := 40) [jlt, jix, jdv, jrd]))
set_option maxHeartbeats 20000 in
theorem e_X25_u1 (s : jS) (x0 x1 : Int) (h0 : (0 ≤ x1 ∧ x1 < 16384)) : m_X25_u1 s x0 x1 = some ((I_and (jf s 1001 (x0 + 1) x1) 255)) := by
  rw [em_X25_u1]; unfold dm_X25_u1
  repeat' (first | refine jite (fun _ => ?_) (fun _ => ?_) | rw [jz] | rw [Option.bind_some])
  all_goals first | rfl | ((try simp (disch := grind) only [Option.bind_some, jlet, Wz_0, Wz_1, Wz_if, L_cmp_0, L_cmp_lt, L_cmp_gt]); all_goals (first | rfl | (simp only [apply_ite some]; done) | ((try simp only [jlt, jix, jdv, jrd, Option.bind_some]); ((repeat' split) <;> first | rfl | omega | (simp_all; done) | (simp_all; omega)); done) | grind (splits := 40) [jlt, jix, jdv, jrd]))
set_option maxHeartbeats 20000 in
theorem e_X25_u2 (s : jS) (x0 x1 : Int) (h0 : (0 ≤ x1 ∧ x1 < 16384)) (h1 : (0 ≤ (W32 (x1 + 1)) ∧ (W32 (x1 + 1)) < 16384)) : m_X25_u2 s x0 x1 = some ((I_or (I_and (jf s 1001 (x0 + 1) x1) 255) (I_shl (I_and (jf s 1001 (x0 + 1) (W32 (x1 + 1))) 255) 8))) := by
  rw [em_X25_u2]; unfold dm_X25_u2
  repeat' (first | refine jite (fun _ => ?_) (fun _ => ?_) | rw [jz] | rw [Option.bind_some])
  all_goals first | rfl | ((try simp (disch := grind) only [e_X25_u1, Option.bind_some, jlet, Wz_0, Wz_1, Wz_if, L_cmp_0, L_cmp_lt, L_cmp_gt]); all_goals (first | rfl | (simp only [apply_ite some]; done) | ((try simp only [jlt, jix, jdv, jrd, Option.bind_some]); ((repeat' split) <;> first | rfl | omega | (simp_all; done) | (simp_all; omega)); done) | grind (splits := 40) [jlt, jix, jdv, jrd]))
def v_X25_s4 (s : jS) (x0 x1 : Int) : Int := (I_or (I_or (I_and (jf s 1001 (x0 + 1) x1) 255) (I_shl (I_and (jf s 1001 (x0 + 1) (W32 (x1 + 1))) 255) 8)) (I_shl (I_or (I_and (jf s 1001 (x0 + 1) (W32 (x1 + 2))) 255) (I_shl (I_and (jf s 1001 (x0 + 1) (W32 ((W32 (x1 + 2)) + 1))) 255) 8)) 16))
set_option maxHeartbeats 20000 in
theorem e_X25_s4 (s : jS) (x0 x1 : Int) (h0 : (0 ≤ x1 ∧ x1 < 16384)) (h1 : (0 ≤ (W32 (x1 + 1)) ∧ (W32 (x1 + 1)) < 16384)) (h2 : (0 ≤ (W32 (x1 + 2)) ∧ (W32 (x1 + 2)) < 16384)) (h3 : (0 ≤ (W32 ((W32 (x1 + 2)) + 1)) ∧ (W32 ((W32 (x1 + 2)) + 1)) < 16384)) : m_X25_s4 s x0 x1 = some (v_X25_s4 s x0 x1) := by
  rw [em_X25_s4]; unfold dm_X25_s4
  unfold v_X25_s4
  repeat' (first | refine jite (fun _ => ?_) (fun _ => ?_) | rw [jz] | rw [Option.bind_some])
  all_goals first | rfl | ((try simp (disch := grind) only [e_X25_u2, Option.bind_some, jlet, Wz_0, Wz_1, Wz_if, L_cmp_0, L_cmp_lt, L_cmp_gt]); all_goals (first | rfl | (simp only [v_X25_s4, apply_ite some]; done) | ((try simp only [jlt, jix, jdv, jrd, Option.bind_some]); ((repeat' split) <;> first | rfl | omega | (simp_all; done) | (simp_all; omega)); done) | grind (splits := 40) [jlt, jix, jdv, jrd, v_X25_s4]))
set_option maxHeartbeats 20000 in
theorem e_X27_end (s : jS) (x0 : Int) : m_X27_end s x0 = some ((I_xor (jf s 31 x0 0) (-1))) := by
  rw [em_X27_end]; unfold dm_X27_end
  repeat' (first | refine jite (fun _ => ?_) (fun _ => ?_) | rw [jz] | rw [Option.bind_some])
  all_goals first | rfl | ((try simp (disch := grind) only [Option.bind_some, jlet, Wz_0, Wz_1, Wz_if, L_cmp_0, L_cmp_lt, L_cmp_gt]); all_goals (first | rfl | (simp only [apply_ite some]; done) | ((try simp only [jlt, jix, jdv, jrd, Option.bind_some]); ((repeat' split) <;> first | rfl | omega | (simp_all; done) | (simp_all; omega)); done) | grind (splits := 40) [jlt, jix, jdv, jrd]))
set_option maxHeartbeats 20000 in
theorem e_X28_field (s : jS) (x0 x1 x2 : Int) : m_X28_field s x0 x1 x2 = some ((W32 ((W32 ((jf s 32 x0 5) + (W32 (32 * x1)))) + (W32 (4 * x2))))) := by
  rw [em_X28_field]; unfold dm_X28_field
  repeat' (first | refine jite (fun _ => ?_) (fun _ => ?_) | rw [jz] | rw [Option.bind_some])
  all_goals first | rfl | ((try simp (disch := grind) only [Option.bind_some, jlet, Wz_0, Wz_1, Wz_if, L_cmp_0, L_cmp_lt, L_cmp_gt]); all_goals (first | rfl | (simp only [apply_ite some]; done) | ((try simp only [jlt, jix, jdv, jrd, Option.bind_some]); ((repeat' split) <;> first | rfl | omega | (simp_all; done) | (simp_all; omega)); done) | grind (splits := 40) [jlt, jix, jdv, jrd]))
set_option maxHeartbeats 20000 in
theorem e_X28_segmentOf (s : jS) (x0 x1 : Int) : m_X28_segmentOf s x0 x1 = some (if x1 = 5 then 0 else if x1 = 4 then 1 else if x1 = 6 then 2 else (-1)) := by
  rw [em_X28_segmentOf]; unfold dm_X28_segmentOf
  repeat' (first | refine jite (fun _ => ?_) (fun _ => ?_) | rw [jz] | rw [Option.bind_some])
  all_goals first | rfl | ((try simp (disch := grind) only [Option.bind_some, jlet, Wz_0, Wz_1, Wz_if, L_cmp_0, L_cmp_lt, L_cmp_gt]); all_goals (first | rfl | (simp only [apply_ite some]; done) | ((try simp only [jlt, jix, jdv, jrd, Option.bind_some]); ((repeat' split) <;> first | rfl | omega | (simp_all; done) | (simp_all; omega)); done) | grind (splits := 40) [jlt, jix, jdv, jrd]))
set_option maxHeartbeats 20000 in
theorem e_X29_beyond (s : jS) (x0 : Int) : m_X29_beyond s x0 = some (if (x0 < 0) ∨ (¬ (x0 < 131072)) then 1 else 0) := by
  rw [em_X29_beyond]; unfold dm_X29_beyond
  all_goals first | rfl | ((try simp (disch := grind) only [Option.bind_some, jlet, Wz_0, Wz_1, Wz_if, L_cmp_0, L_cmp_lt, L_cmp_gt]); all_goals (first | rfl | ((by_cases hP : ((x0 < 0) ∨ (¬ (x0 < 131072)))) <;> (first | rw [if_pos hP] | rw [if_neg hP]) <;> (try simp only [jlt, jix, jdv, jrd, Option.bind_some]) <;> (repeat' split) <;> first | rfl | (exfalso; omega) | (simp_all; done) | (simp_all; omega)) | grind (splits := 40) [jlt, jix, jdv, jrd]))
set_option maxHeartbeats 20000 in
theorem e_X29_isEnd (s : jS) (x0 : Int) : m_X29_isEnd s x0 = some (if ¬ ((jf s 33 x0 11) = 0) ∧ (¬ ((jf s 33 x0 11) = 9)) then 1 else 0) := by
  rw [em_X29_isEnd]; unfold dm_X29_isEnd
  all_goals first | rfl | ((try simp (disch := grind) only [Option.bind_some, jlet, Wz_0, Wz_1, Wz_if, L_cmp_0, L_cmp_lt, L_cmp_gt]); all_goals (first | rfl | ((by_cases hP : (¬ ((jf s 33 x0 11) = 0) ∧ (¬ ((jf s 33 x0 11) = 9)))) <;> (first | rw [if_pos hP] | rw [if_neg hP]) <;> (try simp only [jlt, jix, jdv, jrd, Option.bind_some]) <;> (repeat' split) <;> first | rfl | (exfalso; omega) | (simp_all; done) | (simp_all; omega)) | grind (splits := 40) [jlt, jix, jdv, jrd]))
set_option maxHeartbeats 20000 in
theorem e_X29_half (s : jS) (x0 x1 : Int) (h0 : (0 ≤ x1 ∧ x1 < 131072)) (h1 : (0 ≤ (W32 (x1 + 1)) ∧ (W32 (x1 + 1)) < 131072)) : m_X29_half s x0 x1 = some ((I_or (I_and (jf s 1001 (x0 + 1) x1) 255) (I_shl (I_and (jf s 1001 (x0 + 1) (W32 (x1 + 1))) 255) 8))) := by
  rw [em_X29_half]; unfold dm_X29_half
  repeat' (first | refine jite (fun _ => ?_) (fun _ => ?_) | rw [jz] | rw [Option.bind_some])
  all_goals first | rfl | ((try simp (disch := grind) only [Option.bind_some, jlet, Wz_0, Wz_1, Wz_if, L_cmp_0, L_cmp_lt, L_cmp_gt]); all_goals (first | rfl | (simp only [apply_ite some]; done) | ((try simp only [jlt, jix, jdv, jrd, Option.bind_some]); ((repeat' split) <;> first | rfl | omega | (simp_all; done) | (simp_all; omega)); done) | grind (splits := 40) [jlt, jix, jdv, jrd]))
set_option maxHeartbeats 20000 in
theorem e_X29_bits (s : jS) (x0 x1 x2 : Int) : m_X29_bits s x0 x1 x2 = some ((I_and (I_ushr x0 x2) (W32 ((I_shl 1 (W32 ((W32 (x1 - x2)) + 1))) - 1)))) := by
  rw [em_X29_bits]; unfold dm_X29_bits
  repeat' (first | refine jite (fun _ => ?_) (fun _ => ?_) | rw [jz] | rw [Option.bind_some])
  all_goals first | rfl | ((try simp (disch := grind) only [Option.bind_some, jlet, Wz_0, Wz_1, Wz_if, L_cmp_0, L_cmp_lt, L_cmp_gt]); all_goals (first | rfl | (simp only [apply_ite some]; done) | ((try simp only [jlt, jix, jdv, jrd, Option.bind_some]); ((repeat' split) <;> first | rfl | omega | (simp_all; done) | (simp_all; omega)); done) | grind (splits := 40) [jlt, jix, jdv, jrd]))
set_option maxHeartbeats 20000 in
theorem e_X29_signed (s : jS) (x0 x1 : Int) : m_X29_signed s x0 x1 = some ((I_shr (I_shl x0 (W32 (32 - x1))) (W32 (32 - x1)))) := by
  rw [em_X29_signed]; unfold dm_X29_signed
  repeat' (first | refine jite (fun _ => ?_) (fun _ => ?_) | rw [jz] | rw [Option.bind_some])
  all_goals first | rfl | ((try simp (disch := grind) only [Option.bind_some, jlet, Wz_0, Wz_1, Wz_if, L_cmp_0, L_cmp_lt, L_cmp_gt]); all_goals (first | rfl | (simp only [apply_ite some]; done) | ((try simp only [jlt, jix, jdv, jrd, Option.bind_some]); ((repeat' split) <;> first | rfl | omega | (simp_all; done) | (simp_all; omega)); done) | grind (splits := 40) [jlt, jix, jdv, jrd]))
def v_X29_jump (x0 : Int) : Int := (I_shr (I_shl (I_or (I_or (I_or (I_or (I_or (I_or (I_or (I_shl (I_and (I_ushr x0 12) (W32 ((I_shl 1 (W32 ((W32 (12 - 12)) + 1))) - 1))) 11) (I_shl (I_and (I_ushr x0 8) (W32 ((I_shl 1 (W32 ((W32 (8 - 8)) + 1))) - 1))) 10)) (I_shl (I_and (I_ushr x0 9) (W32 ((I_shl 1 (W32 ((W32 (10 - 9)) + 1))) - 1))) 8)) (I_shl (I_and (I_ushr x0 6) (W32 ((I_shl 1 (W32 ((W32 (6 - 6)) + 1))) - 1))) 7)) (I_shl (I_and (I_ushr x0 7) (W32 ((I_shl 1 (W32 ((W32 (7 - 7)) + 1))) - 1))) 6)) (I_shl (I_and (I_ushr x0 2) (W32 ((I_shl 1 (W32 ((W32 (2 - 2)) + 1))) - 1))) 5)) (I_shl (I_and (I_ushr x0 11) (W32 ((I_shl 1 (W32 ((W32 (11 - 11)) + 1))) - 1))) 4)) (I_shl (I_and (I_ushr x0 3) (W32 ((I_shl 1 (W32 ((W32 (5 - 3)) + 1))) - 1))) 1)) (W32 (32 - 12))) (W32 (32 - 12)))
set_option maxHeartbeats 20000 in
theorem e_X29_jump (s : jS) (x0 : Int) : m_X29_jump s x0 = some (v_X29_jump x0) := by
  rw [em_X29_jump]; unfold dm_X29_jump
  unfold v_X29_jump
  repeat' (first | refine jite (fun _ => ?_) (fun _ => ?_) | rw [jz] | rw [Option.bind_some] | rw [e_X29_bits] | rw [e_X29_signed])
  all_goals first | rfl | ((try simp (disch := grind) only [e_X29_bits, e_X29_signed, Option.bind_some, jlet, Wz_0, Wz_1, Wz_if, L_cmp_0, L_cmp_lt, L_cmp_gt]); all_goals (first | rfl | (simp only [v_X29_jump, apply_ite some]; done) | ((try simp only [jlt, jix, jdv, jrd, Option.bind_some]); ((repeat' split) <;> first | rfl | omega | (simp_all; done) | (simp_all; omega)); done) | grind (splits := 40) [jlt, jix, jdv, jrd, v_X29_jump]))
def v_X29_branch (x0 : Int) : Int := (I_shr (I_shl (I_or (I_or (I_or (I_or (I_shl (I_and (I_ushr x0 12) (W32 ((I_shl 1 (W32 ((W32 (12 - 12)) + 1))) - 1))) 8) (I_shl (I_and (I_ushr x0 5) (W32 ((I_shl 1 (W32 ((W32 (6 - 5)) + 1))) - 1))) 6)) (I_shl (I_and (I_ushr x0 2) (W32 ((I_shl 1 (W32 ((W32 (2 - 2)) + 1))) - 1))) 5)) (I_shl (I_and (I_ushr x0 10) (W32 ((I_shl 1 (W32 ((W32 (11 - 10)) + 1))) - 1))) 3)) (I_shl (I_and (I_ushr x0 3) (W32 ((I_shl 1 (W32 ((W32 (4 - 3)) + 1))) - 1))) 1)) (W32 (32 - 9))) (W32 (32 - 9)))
set_option maxHeartbeats 20000 in
theorem e_X29_branch (s : jS) (x0 : Int) : m_X29_branch s x0 = some (v_X29_branch x0) := by
  rw [em_X29_branch]; unfold dm_X29_branch
  unfold v_X29_branch
  repeat' (first | refine jite (fun _ => ?_) (fun _ => ?_) | rw [jz] | rw [Option.bind_some] | rw [e_X29_bits] | rw [e_X29_signed])
  all_goals first | rfl | ((try simp (disch := grind) only [e_X29_bits, e_X29_signed, Option.bind_some, jlet, Wz_0, Wz_1, Wz_if, L_cmp_0, L_cmp_lt, L_cmp_gt]); all_goals (first | rfl | (simp only [v_X29_branch, apply_ite some]; done) | ((try simp only [jlt, jix, jdv, jrd, Option.bind_some]); ((repeat' split) <;> first | rfl | omega | (simp_all; done) | (simp_all; omega)); done) | grind (splits := 40) [jlt, jix, jdv, jrd, v_X29_branch]))
def v_X29_rowKind (x0 x1 : Int) : Int := if x1 = 1 then (W32 (37 + x0)) else if x1 = 32 then if x0 = 0 then 28 else if x0 = 5 then 34 else (-1) else if x1 = 0 then if x0 = 0 then 27 else if x0 < 5 then (W32 (28 + x0)) else if x0 = 5 then 33 else (W32 (29 + x0)) else (-1)
set_option maxHeartbeats 20000 in
theorem e_X29_rowKind (s : jS) (x0 x1 : Int) : m_X29_rowKind s x0 x1 = some (v_X29_rowKind x0 x1) := by
  rw [em_X29_rowKind]; unfold dm_X29_rowKind
  unfold v_X29_rowKind
  repeat' (first | refine jite (fun _ => ?_) (fun _ => ?_) | rw [jz] | rw [Option.bind_some])
  all_goals first | rfl | ((try simp (disch := grind) only [Option.bind_some, jlet, Wz_0, Wz_1, Wz_if, L_cmp_0, L_cmp_lt, L_cmp_gt]); all_goals (first | rfl | (simp only [v_X29_rowKind, apply_ite some]; done) | ((try simp only [jlt, jix, jdv, jrd, Option.bind_some]); ((repeat' split) <;> first | rfl | omega | (simp_all; done) | (simp_all; omega)); done) | grind (splits := 40) [jlt, jix, jdv, jrd, v_X29_rowKind]))
set_option maxHeartbeats 20000 in
theorem e_X29_isMarked (s : jS) (x0 x1 : Int) (h0 : (¬ ((x1 < 0) ∨ (¬ (x1 < 131072)))) → (0 ≤ (I_shr x1 1) ∧ (I_shr x1 1) < 65536)) : m_X29_isMarked s x0 x1 = some (if ¬ ((x1 < 0) ∨ (¬ (x1 < 131072))) ∧ (¬ ((jf s 1002 (x0 + 2) (I_shr x1 1)) = 0)) then 1 else 0) := by
  rw [em_X29_isMarked]; unfold dm_X29_isMarked
  all_goals first | rfl | ((try simp (disch := grind) only [e_X29_beyond, Option.bind_some, jlet, Wz_0, Wz_1, Wz_if, L_cmp_0, L_cmp_lt, L_cmp_gt]); all_goals (first | rfl | ((by_cases hP : (¬ ((x1 < 0) ∨ (¬ (x1 < 131072))) ∧ (¬ ((jf s 1002 (x0 + 2) (I_shr x1 1)) = 0)))) <;> (first | rw [if_pos hP] | rw [if_neg hP]) <;> (try simp only [jlt, jix, jdv, jrd, Option.bind_some]) <;> (repeat' split) <;> first | rfl | (exfalso; omega) | (simp_all; done) | (simp_all; omega)) | grind (splits := 40) [jlt, jix, jdv, jrd]))
set_option maxHeartbeats 20000 in
theorem e_X29_plain (s : jS) (x0 : Int) : m_X29_plain s x0 = some ((L_and x0 4294967295)) := by
  rw [em_X29_plain]; unfold dm_X29_plain
  repeat' (first | refine jite (fun _ => ?_) (fun _ => ?_) | rw [jz] | rw [Option.bind_some])
  all_goals first | rfl | ((try simp (disch := grind) only [Option.bind_some, jlet, Wz_0, Wz_1, Wz_if, L_cmp_0, L_cmp_lt, L_cmp_gt]); all_goals (first | rfl | (simp only [apply_ite some]; done) | ((try simp only [jlt, jix, jdv, jrd, Option.bind_some]); ((repeat' split) <;> first | rfl | omega | (simp_all; done) | (simp_all; omega)); done) | grind (splits := 40) [jlt, jix, jdv, jrd]))
def v_X29_asRow (x0 : Int) : Int := if x0 = 18 then 27 else if x0 = 19 then 30 else if x0 = 20 then 31 else if x0 = 21 then 32 else if x0 = 22 then 35 else if x0 = 23 then 36 else if x0 = 24 then 29 else if x0 = 25 then 33 else 34
set_option maxHeartbeats 20000 in
theorem e_X29_asRow (s : jS) (x0 : Int) : m_X29_asRow s x0 = some (v_X29_asRow x0) := by
  rw [em_X29_asRow]; unfold dm_X29_asRow
  unfold v_X29_asRow
  repeat' (first | refine jite (fun _ => ?_) (fun _ => ?_) | rw [jz] | rw [Option.bind_some])
  all_goals first | rfl | ((try simp (disch := grind) only [Option.bind_some, jlet, Wz_0, Wz_1, Wz_if, L_cmp_0, L_cmp_lt, L_cmp_gt]); all_goals (first | rfl | (simp only [v_X29_asRow, apply_ite some]; done) | ((try simp only [jlt, jix, jdv, jrd, Option.bind_some]); ((repeat' split) <;> first | rfl | omega | (simp_all; done) | (simp_all; omega)); done) | grind (splits := 40) [jlt, jix, jdv, jrd, v_X29_asRow]))
set_option maxHeartbeats 20000 in
theorem e_X29_moved (s : jS) (x0 x1 x2 : Int) : m_X29_moved s x0 x1 x2 = some (if x0 = 0 then (I_shl x1 (I_and x2 31)) else if x0 = 1 then (I_ushr x1 (I_and x2 31)) else (I_shr x1 (I_and x2 31))) := by
  rw [em_X29_moved]; unfold dm_X29_moved
  repeat' (first | refine jite (fun _ => ?_) (fun _ => ?_) | rw [jz] | rw [Option.bind_some])
  all_goals first | rfl | ((try simp (disch := grind) only [Option.bind_some, jlet, Wz_0, Wz_1, Wz_if, L_cmp_0, L_cmp_lt, L_cmp_gt]); all_goals (first | rfl | (simp only [apply_ite some]; done) | ((try simp only [jlt, jix, jdv, jrd, Option.bind_some]); ((repeat' split) <;> first | rfl | omega | (simp_all; done) | (simp_all; omega)); done) | grind (splits := 40) [jlt, jix, jdv, jrd]))
def v_X29_product (x0 x1 x2 : Int) : Int := if x0 = 37 then (W32 (x1 * x2)) else if x0 = 38 then (L2i (L_shr (W64 (x1 * x2)) 32)) else if x0 = 39 then (L2i (L_shr (W64 (x1 * (L_and x2 4294967295))) 32)) else (L2i (L_ushr (W64 ((L_and x1 4294967295) * (L_and x2 4294967295))) 32))
set_option maxHeartbeats 20000 in
theorem e_X29_product (s : jS) (x0 x1 x2 : Int) : m_X29_product s x0 x1 x2 = some (v_X29_product x0 x1 x2) := by
  rw [em_X29_product]; unfold dm_X29_product
  unfold v_X29_product
  repeat' (first | refine jite (fun _ => ?_) (fun _ => ?_) | rw [jz] | rw [Option.bind_some] | rw [e_X29_plain])
  all_goals first | rfl | ((try simp (disch := grind) only [e_X29_plain, Option.bind_some, jlet, Wz_0, Wz_1, Wz_if, L_cmp_0, L_cmp_lt, L_cmp_gt]); all_goals (first | rfl | (simp only [v_X29_product, apply_ite some]; done) | ((try simp only [jlt, jix, jdv, jrd, Option.bind_some]); ((repeat' split) <;> first | rfl | omega | (simp_all; done) | (simp_all; omega)); done) | grind (splits := 40) [jlt, jix, jdv, jrd, v_X29_product]))
def v_X29_quotient (x0 x1 x2 : Int) : Int := if x0 = 41 then if x2 = 0 then (-1) else if x2 = (-1) then (W32 (-x1)) else (I_div x1 x2) else if x0 = 42 then if x2 = 0 then (-1) else (L2i (L_div (L_and x1 4294967295) (L_and x2 4294967295))) else if x0 = 43 then if x2 = 0 then x1 else if x2 = (-1) then 0 else (I_rem x1 x2) else if x2 = 0 then x1 else (L2i (L_rem (L_and x1 4294967295) (L_and x2 4294967295)))
set_option maxHeartbeats 20000 in
theorem e_X29_quotient (s : jS) (x0 x1 x2 : Int) (h0 : ¬ (x0 = 41) → x0 = 42 → ¬ (x2 = 0) → (¬ (L_and x2 4294967295) = 0)) (h1 : ¬ (x0 = 41) → ¬ (x0 = 42) → ¬ (x0 = 43) → ¬ (x2 = 0) → (¬ (L_and x2 4294967295) = 0)) : m_X29_quotient s x0 x1 x2 = some (v_X29_quotient x0 x1 x2) := by
  rw [em_X29_quotient]; unfold dm_X29_quotient
  unfold v_X29_quotient
  repeat' (first | refine jite (fun _ => ?_) (fun _ => ?_) | rw [jz] | rw [Option.bind_some] | rw [e_X29_plain])
  all_goals first | rfl | ((try simp (disch := grind) only [e_X29_plain, Option.bind_some, jlet, Wz_0, Wz_1, Wz_if, L_cmp_0, L_cmp_lt, L_cmp_gt]); all_goals (first | rfl | (simp only [v_X29_quotient, apply_ite some]; done) | ((try simp only [jlt, jix, jdv, jrd, Option.bind_some]); ((repeat' split) <;> first | rfl | omega | (simp_all; done) | (simp_all; omega)); done) | grind (splits := 40) [jlt, jix, jdv, jrd, v_X29_quotient]))
set_option maxHeartbeats 20000 in
theorem e_X29_get (s : jS) (x0 x1 : Int) : m_X29_get s x0 x1 = some (if x1 = 32 then (jf s 33 x0 10) else if x1 < 0 then 0 else if x1 < 32 then (jf s 1000 (x0 + 4) x1) else 0) := by
  rw [em_X29_get]; unfold dm_X29_get
  repeat' (first | refine jite (fun _ => ?_) (fun _ => ?_) | rw [jz] | rw [Option.bind_some])
  all_goals first | rfl | ((try simp (disch := grind) only [Option.bind_some, jlet, Wz_0, Wz_1, Wz_if, L_cmp_0, L_cmp_lt, L_cmp_gt]); all_goals (first | rfl | (simp only [apply_ite some]; done) | ((try simp only [jlt, jix, jdv, jrd, Option.bind_some]); ((repeat' split) <;> first | rfl | omega | (simp_all; done) | (simp_all; omega)); done) | grind (splits := 40) [jlt, jix, jdv, jrd]))
set_option maxHeartbeats 20000 in
theorem e_X29_peek (s : jS) (x0 x1 : Int) : m_X29_peek s x0 x1 = some (if (x1 < 0) ∨ (¬ (x1 < 131072)) then (-1) else (I_and (jf s 1001 (x0 + 1) x1) 255)) := by
  rw [em_X29_peek]; unfold dm_X29_peek
  repeat' (first | refine jite (fun _ => ?_) (fun _ => ?_) | rw [jz] | rw [Option.bind_some] | rw [e_X29_beyond])
  all_goals first | rfl | ((try simp (disch := grind) only [e_X29_beyond, Option.bind_some, jlet, Wz_0, Wz_1, Wz_if, L_cmp_0, L_cmp_lt, L_cmp_gt]); all_goals (first | rfl | (simp only [apply_ite some]; done) | ((try simp only [jlt, jix, jdv, jrd, Option.bind_some]); ((repeat' split) <;> first | rfl | omega | (simp_all; done) | (simp_all; omega)); done) | grind (splits := 40) [jlt, jix, jdv, jrd]))
def v_X29_state (s : jS) (x0 x1 : Int) : Int := if x1 = 0 then (jf s 33 x0 11) else if x1 = 1 then (jf s 33 x0 12) else if x1 = 2 then (jf s 33 x0 13) else if x1 = 3 then (jf s 33 x0 14) else if x1 = 4 then (jf s 33 x0 15) else if x1 = 5 then (jf s 33 x0 18) else if x1 = 6 then (W32 ((jf s 33 x0 16) - (jf s 33 x0 17))) else if x1 = 7 then (jf s 33 x0 21) else if x1 = 8 then (jf s 33 x0 19) else (-1)
set_option maxHeartbeats 20000 in
theorem e_X29_state (s : jS) (x0 x1 : Int) : m_X29_state s x0 x1 = some (v_X29_state s x0 x1) := by
  rw [em_X29_state]; unfold dm_X29_state
  unfold v_X29_state
  repeat' (first | refine jite (fun _ => ?_) (fun _ => ?_) | rw [jz] | rw [Option.bind_some])
  all_goals first | rfl | ((try simp (disch := grind) only [Option.bind_some, jlet, Wz_0, Wz_1, Wz_if, L_cmp_0, L_cmp_lt, L_cmp_gt]); all_goals (first | rfl | (simp only [v_X29_state, apply_ite some]; done) | ((try simp only [jlt, jix, jdv, jrd, Option.bind_some]); ((repeat' split) <;> first | rfl | omega | (simp_all; done) | (simp_all; omega)); done) | grind (splits := 40) [jlt, jix, jdv, jrd, v_X29_state]))
set_option maxHeartbeats 20000 in
theorem e_X29_output (s : jS) (x0 x1 : Int) (h0 : ¬ (x1 < 0) → x1 < (jf s 33 x0 18) → (0 ≤ x1 ∧ x1 < 2000)) : m_X29_output s x0 x1 = some (if x1 < 0 then (-1) else if x1 < (jf s 33 x0 18) then (I_and (jf s 1001 (x0 + 7) x1) 255) else (-1)) := by
  rw [em_X29_output]; unfold dm_X29_output
  repeat' (first | refine jite (fun _ => ?_) (fun _ => ?_) | rw [jz] | rw [Option.bind_some])
  all_goals first | rfl | ((try simp (disch := grind) only [Option.bind_some, jlet, Wz_0, Wz_1, Wz_if, L_cmp_0, L_cmp_lt, L_cmp_gt]); all_goals (first | rfl | (simp only [apply_ite some]; done) | ((try simp only [jlt, jix, jdv, jrd, Option.bind_some]); ((repeat' split) <;> first | rfl | omega | (simp_all; done) | (simp_all; omega)); done) | grind (splits := 40) [jlt, jix, jdv, jrd]))
set_option maxHeartbeats 20000 in
theorem e_X31_has (s : jS) (x0 x1 : Int) : m_X31_has s x0 x1 = some (if ¬ (x1 < (jf s 35 x0 0)) ∧ ((W32 (x1 - (jf s 35 x0 0))) < (jf s 35 x0 1)) then 1 else 0) := by
  rw [em_X31_has]; unfold dm_X31_has
  all_goals first | rfl | ((try simp (disch := grind) only [Option.bind_some, jlet, Wz_0, Wz_1, Wz_if, L_cmp_0, L_cmp_lt, L_cmp_gt]); all_goals (first | rfl | ((by_cases hP : (¬ (x1 < (jf s 35 x0 0)) ∧ ((W32 (x1 - (jf s 35 x0 0))) < (jf s 35 x0 1)))) <;> (first | rw [if_pos hP] | rw [if_neg hP]) <;> (try simp only [jlt, jix, jdv, jrd, Option.bind_some]) <;> (repeat' split) <;> first | rfl | (exfalso; omega) | (simp_all; done) | (simp_all; omega)) | grind (splits := 40) [jlt, jix, jdv, jrd]))
set_option maxHeartbeats 20000 in
theorem e_X33_isPlainAt (s : jS) (x0 x1 : Int) (h0 : (0 ≤ x1 ∧ x1 < 2000)) (h1 : (jf s 1000 (x0 + 24) x1) = (-1) → (0 ≤ x1 ∧ x1 < 2000)) : m_X33_isPlainAt s x0 x1 = some (if ((jf s 1000 (x0 + 24) x1) = (-1)) ∧ ((jf s 1000 (x0 + 25) x1) = (-1)) then 1 else 0) := by
  rw [em_X33_isPlainAt]; unfold dm_X33_isPlainAt
  all_goals first | rfl | ((try simp (disch := grind) only [Option.bind_some, jlet, Wz_0, Wz_1, Wz_if, L_cmp_0, L_cmp_lt, L_cmp_gt]); all_goals (first | rfl | ((by_cases hP : (((jf s 1000 (x0 + 24) x1) = (-1)) ∧ ((jf s 1000 (x0 + 25) x1) = (-1)))) <;> (first | rw [if_pos hP] | rw [if_neg hP]) <;> (try simp only [jlt, jix, jdv, jrd, Option.bind_some]) <;> (repeat' split) <;> first | rfl | (exfalso; omega) | (simp_all; done) | (simp_all; omega)) | grind (splits := 40) [jlt, jix, jdv, jrd]))
def v_X33_sortsOf (s : jS) (x0 x1 : Int) : Int := if x1 = 0 then (jc s 50) else if x1 = 1 then (jc s 51) else if x1 = 2 then (jc s 52) else if x1 = 3 then (jc s 53) else if x1 = 4 then (jc s 53) else if x1 = 5 then (jc s 54) else if x1 = 6 then (jc s 55) else if x1 = 7 then (jc s 48) else if x1 = 8 then (jc s 47) else if x1 = 9 then (jc s 48) else if x1 = 10 then (jc s 56) else if x1 = 11 then (jc s 57) else if x1 = 12 then (jc s 48) else if x1 = 13 then (jc s 58) else if x1 = 14 then (jc s 58) else if x1 = 15 then (jc s 59) else (jc s 60)
set_option maxHeartbeats 20000 in
theorem e_X33_sortsOf (s : jS) (x0 x1 : Int) : m_X33_sortsOf s x0 x1 = some (v_X33_sortsOf s x0 x1) := by
  rw [em_X33_sortsOf]; unfold dm_X33_sortsOf
  unfold v_X33_sortsOf
  repeat' (first | refine jite (fun _ => ?_) (fun _ => ?_) | rw [jz] | rw [Option.bind_some] | (rw [eu_X33_sortsOf_104]; unfold du_X33_sortsOf_104) | (rw [eu_X33_sortsOf_120]; unfold du_X33_sortsOf_120) | (rw [eu_X33_sortsOf_92]; unfold du_X33_sortsOf_92))
  all_goals first | rfl | ((try simp (disch := grind) only [eu_X33_sortsOf_104, du_X33_sortsOf_104, eu_X33_sortsOf_120, du_X33_sortsOf_120, eu_X33_sortsOf_92, du_X33_sortsOf_92, Option.bind_some, jlet, Wz_0, Wz_1, Wz_if, L_cmp_0, L_cmp_lt, L_cmp_gt]); all_goals (first | rfl | (simp only [v_X33_sortsOf, apply_ite some]; done) | ((try simp only [jlt, jix, jdv, jrd, Option.bind_some]); ((repeat' split) <;> first | rfl | omega | (simp_all; done) | (simp_all; omega)); done) | grind (splits := 40) [jlt, jix, jdv, jrd, v_X33_sortsOf]))
def v_X33_partsOf (s : jS) (x0 x1 : Int) : Int := if x1 = 0 then (jc s 50) else if x1 = 1 then (jc s 61) else if x1 = 2 then (jc s 62) else if x1 = 3 then (jc s 63) else if x1 = 4 then (jc s 64) else if x1 = 5 then (jc s 65) else if x1 = 6 then (jc s 63) else if x1 = 7 then (jc s 63) else if x1 = 8 then (jc s 66) else if x1 = 9 then (jc s 67) else if x1 = 10 then (jc s 68) else if x1 = 11 then (jc s 69) else if x1 = 12 then (jc s 63) else if x1 = 13 then (jc s 63) else if x1 = 14 then (jc s 64) else if x1 = 15 then (jc s 70) else (jc s 71)
set_option maxHeartbeats 20000 in
theorem e_X33_partsOf (s : jS) (x0 x1 : Int) : m_X33_partsOf s x0 x1 = some (v_X33_partsOf s x0 x1) := by
  rw [em_X33_partsOf]; unfold dm_X33_partsOf
  unfold v_X33_partsOf
  repeat' (first | refine jite (fun _ => ?_) (fun _ => ?_) | rw [jz] | rw [Option.bind_some] | (rw [eu_X33_partsOf_104]; unfold du_X33_partsOf_104))
  all_goals first | rfl | ((try simp (disch := grind) only [eu_X33_partsOf_104, du_X33_partsOf_104, Option.bind_some, jlet, Wz_0, Wz_1, Wz_if, L_cmp_0, L_cmp_lt, L_cmp_gt]); all_goals (first | rfl | (simp only [v_X33_partsOf, apply_ite some]; done) | ((try simp only [jlt, jix, jdv, jrd, Option.bind_some]); ((repeat' split) <;> first | rfl | omega | (simp_all; done) | (simp_all; omega)); done) | grind (splits := 40) [jlt, jix, jdv, jrd, v_X33_partsOf]))
set_option maxHeartbeats 20000 in
theorem e_X34_bind (s : jS) (x0 : Int) : m_X34_bind s x0 = some (if (jf s 38 x0 5) = 0 then if (jf s 38 x0 4) = 0 then if (jf s 38 x0 1) = (-1) then 1 else 0 else 1 else 2) := by
  rw [em_X34_bind]; unfold dm_X34_bind
  repeat' (first | refine jite (fun _ => ?_) (fun _ => ?_) | rw [jz] | rw [Option.bind_some])
  all_goals first | rfl | ((try simp (disch := grind) only [Option.bind_some, jlet, Wz_0, Wz_1, Wz_if, L_cmp_0, L_cmp_lt, L_cmp_gt]); all_goals (first | rfl | (simp only [apply_ite some]; done) | ((try simp only [jlt, jix, jdv, jrd, Option.bind_some]); ((repeat' split) <;> first | rfl | omega | (simp_all; done) | (simp_all; omega)); done) | grind (splits := 40) [jlt, jix, jdv, jrd]))
set_option maxHeartbeats 20000 in
theorem e_X35_symbol (s : jS) (x0 x1 x2 : Int) (h0 : (0 ≤ x1 ∧ x1 < 6)) (h1 : (0 ≤ x2 ∧ x2 < 100)) : m_X35_symbol s x0 x1 x2 = some ((((((x0 + (-4000)) + 4041 + 1858 * x1) + 614) + 3) + 10 + 3 * x2)) := by
  rw [em_X35_symbol]; unfold dm_X35_symbol
  repeat' (first | refine jite (fun _ => ?_) (fun _ => ?_) | rw [jz] | rw [Option.bind_some])
  all_goals first | rfl | ((try simp (disch := grind) only [Option.bind_some, jlet, Wz_0, Wz_1, Wz_if, L_cmp_0, L_cmp_lt, L_cmp_gt]); all_goals (first | rfl | (simp only [apply_ite some]; done) | ((try simp only [jlt, jix, jdv, jrd, Option.bind_some]); ((repeat' split) <;> first | rfl | omega | (simp_all; done) | (simp_all; omega)); done) | grind (splits := 40) [jlt, jix, jdv, jrd]))
set_option maxHeartbeats 20000 in
theorem e_X35_lengthOf (s : jS) (x0 x1 : Int) (h0 : (0 ≤ x1 ∧ jK s x1 = 22)) (h1 : ¬ ((jf s 22 x1 2) = 19) → (0 ≤ x1 ∧ jK s x1 = 22)) (h2 : ¬ ((jf s 22 x1 2) = 19) → (jf s 22 x1 2) = 43 → (0 ≤ x1 ∧ jK s x1 = 22)) : m_X35_lengthOf s x0 x1 = some (if (jf s 22 x1 2) = 19 then 8 else if (jf s 22 x1 2) = 43 then (jf s 22 x1 4) else 4) := by
  rw [em_X35_lengthOf]; unfold dm_X35_lengthOf
  repeat' (first | refine jite (fun _ => ?_) (fun _ => ?_) | rw [jz] | rw [Option.bind_some])
  all_goals first | rfl | ((try simp (disch := grind) only [Option.bind_some, jlet, Wz_0, Wz_1, Wz_if, L_cmp_0, L_cmp_lt, L_cmp_gt]); all_goals (first | rfl | (simp only [apply_ite some]; done) | ((try simp only [jlt, jix, jdv, jrd, Option.bind_some]); ((repeat' split) <;> first | rfl | omega | (simp_all; done) | (simp_all; omega)); done) | grind (splits := 40) [jlt, jix, jdv, jrd]))
set_option maxHeartbeats 20000 in
theorem e_X35_isOne (s : jS) (x0 x1 x2 x3 : Int) : m_X35_isOne s x0 x1 x2 x3 = some (if (x1 = x2) ∨ (x1 = x3) then 1 else 0) := by
  rw [em_X35_isOne]; unfold dm_X35_isOne
  all_goals first | rfl | ((try simp (disch := grind) only [Option.bind_some, jlet, Wz_0, Wz_1, Wz_if, L_cmp_0, L_cmp_lt, L_cmp_gt]); all_goals (first | rfl | ((by_cases hP : ((x1 = x2) ∨ (x1 = x3))) <;> (first | rw [if_pos hP] | rw [if_neg hP]) <;> (try simp only [jlt, jix, jdv, jrd, Option.bind_some]) <;> (repeat' split) <;> first | rfl | (exfalso; omega) | (simp_all; done) | (simp_all; omega)) | grind (splits := 40) [jlt, jix, jdv, jrd]))
set_option maxHeartbeats 20000 in
theorem e_X35_isInt (s : jS) (x0 : Int) : m_X35_isInt s x0 = some (if ¬ (x0 < (-2147483648)) ∧ (¬ (2147483647 < x0)) then 1 else 0) := by
  rw [em_X35_isInt]; unfold dm_X35_isInt
  all_goals first | rfl | ((try simp (disch := grind) only [Option.bind_some, jlet, Wz_0, Wz_1, Wz_if, L_cmp_0, L_cmp_lt, L_cmp_gt]); all_goals (first | rfl | ((by_cases hP : (¬ (x0 < (-2147483648)) ∧ (¬ (2147483647 < x0)))) <;> (first | rw [if_pos hP] | rw [if_neg hP]) <;> (try simp only [jlt, jix, jdv, jrd, Option.bind_some]) <;> (repeat' split) <;> first | rfl | (exfalso; omega) | (simp_all; done) | (simp_all; omega)) | grind (splits := 40) [jlt, jix, jdv, jrd]))
set_option maxHeartbeats 20000 in
theorem e_X35_upperOf (s : jS) (x0 : Int) : m_X35_upperOf s x0 = some ((L_and (L_shr (W64 (x0 + 2048)) 12) 1048575)) := by
  rw [em_X35_upperOf]; unfold dm_X35_upperOf
  repeat' (first | refine jite (fun _ => ?_) (fun _ => ?_) | rw [jz] | rw [Option.bind_some])
  all_goals first | rfl | ((try simp (disch := grind) only [Option.bind_some, jlet, Wz_0, Wz_1, Wz_if, L_cmp_0, L_cmp_lt, L_cmp_gt]); all_goals (first | rfl | (simp only [apply_ite some]; done) | ((try simp only [jlt, jix, jdv, jrd, Option.bind_some]); ((repeat' split) <;> first | rfl | omega | (simp_all; done) | (simp_all; omega)); done) | grind (splits := 40) [jlt, jix, jdv, jrd]))
set_option maxHeartbeats 20000 in
theorem e_X35_lowerOf (s : jS) (x0 : Int) : m_X35_lowerOf s x0 = some ((W64 ((L_xor (L_and x0 4095) 2048) - 2048))) := by
  rw [em_X35_lowerOf]; unfold dm_X35_lowerOf
  repeat' (first | refine jite (fun _ => ?_) (fun _ => ?_) | rw [jz] | rw [Option.bind_some])
  all_goals first | rfl | ((try simp (disch := grind) only [Option.bind_some, jlet, Wz_0, Wz_1, Wz_if, L_cmp_0, L_cmp_lt, L_cmp_gt]); all_goals (first | rfl | (simp only [apply_ite some]; done) | ((try simp only [jlt, jix, jdv, jrd, Option.bind_some]); ((repeat' split) <;> first | rfl | omega | (simp_all; done) | (simp_all; omega)); done) | grind (splits := 40) [jlt, jix, jdv, jrd]))
set_option maxHeartbeats 20000 in
theorem e_X35_isLow (s : jS) (x0 : Int) : m_X35_isLow s x0 = some (if ¬ (x0 < (-2048)) ∧ (¬ (2047 < x0)) then 1 else 0) := by
  rw [em_X35_isLow]; unfold dm_X35_isLow
  all_goals first | rfl | ((try simp (disch := grind) only [Option.bind_some, jlet, Wz_0, Wz_1, Wz_if, L_cmp_0, L_cmp_lt, L_cmp_gt]); all_goals (first | rfl | ((by_cases hP : (¬ (x0 < (-2048)) ∧ (¬ (2047 < x0)))) <;> (first | rw [if_pos hP] | rw [if_neg hP]) <;> (try simp only [jlt, jix, jdv, jrd, Option.bind_some]) <;> (repeat' split) <;> first | rfl | (exfalso; omega) | (simp_all; done) | (simp_all; omega)) | grind (splits := 40) [jlt, jix, jdv, jrd]))
set_option maxHeartbeats 20000 in
theorem e_X35_how (s : jS) (x0 x1 : Int) (h0 : (0 ≤ x1 ∧ x1 < 600)) : m_X35_how s x0 x1 = some ((jf s 1000 (x0 + 17) x1)) := by
  rw [em_X35_how]; unfold dm_X35_how
  repeat' (first | refine jite (fun _ => ?_) (fun _ => ?_) | rw [jz] | rw [Option.bind_some])
  all_goals first | rfl | ((try simp (disch := grind) only [Option.bind_some, jlet, Wz_0, Wz_1, Wz_if, L_cmp_0, L_cmp_lt, L_cmp_gt]); all_goals (first | rfl | (simp only [apply_ite some]; done) | ((try simp only [jlt, jix, jdv, jrd, Option.bind_some]); ((repeat' split) <;> first | rfl | omega | (simp_all; done) | (simp_all; omega)); done) | grind (splits := 40) [jlt, jix, jdv, jrd]))
set_option maxHeartbeats 20000 in
theorem e_X36_in (s : jS) (x0 x2 x4 : Int) : m_X36_in s x0 x2 x4 = some (if ¬ (x0 < x2) ∧ (¬ (x4 < x0)) then 1 else 0) := by
  rw [em_X36_in]; unfold dm_X36_in
  all_goals first | rfl | ((try simp (disch := grind) only [Option.bind_some, jlet, Wz_0, Wz_1, Wz_if, L_cmp_0, L_cmp_lt, L_cmp_gt]); all_goals (first | rfl | ((by_cases hP : (¬ (x0 < x2) ∧ (¬ (x4 < x0)))) <;> (first | rw [if_pos hP] | rw [if_neg hP]) <;> (try simp only [jlt, jix, jdv, jrd, Option.bind_some]) <;> (repeat' split) <;> first | rfl | (exfalso; omega) | (simp_all; done) | (simp_all; omega)) | grind (splits := 40) [jlt, jix, jdv, jrd]))
set_option maxHeartbeats 20000 in
theorem e_X36_isPart (s : jS) (x0 x1 : Int) : m_X36_isPart s x0 x1 = some (if ¬ (x1 < 0) ∧ (¬ ((W32 ((jf s 40 x0 15) - 1)) < x1)) then 1 else 0) := by
  rw [em_X36_isPart]; unfold dm_X36_isPart
  all_goals first | rfl | ((try simp (disch := grind) only [e_X36_in, Option.bind_some, jlet, Wz_0, Wz_1, Wz_if, L_cmp_0, L_cmp_lt, L_cmp_gt]); all_goals (first | rfl | ((by_cases hP : (¬ (x1 < 0) ∧ (¬ ((W32 ((jf s 40 x0 15) - 1)) < x1)))) <;> (first | rw [if_pos hP] | rw [if_neg hP]) <;> (try simp only [jlt, jix, jdv, jrd, Option.bind_some]) <;> (repeat' split) <;> first | rfl | (exfalso; omega) | (simp_all; done) | (simp_all; omega)) | grind (splits := 40) [jlt, jix, jdv, jrd]))
set_option maxHeartbeats 20000 in
theorem e_X36_isLabel (s : jS) (x0 x1 : Int) : m_X36_isLabel s x0 x1 = some (if ¬ (x1 < 0) ∧ (¬ ((W32 ((jf s 40 x0 17) - 1)) < x1)) then 1 else 0) := by
  rw [em_X36_isLabel]; unfold dm_X36_isLabel
  all_goals first | rfl | ((try simp (disch := grind) only [e_X36_in, Option.bind_some, jlet, Wz_0, Wz_1, Wz_if, L_cmp_0, L_cmp_lt, L_cmp_gt]); all_goals (first | rfl | ((by_cases hP : (¬ (x1 < 0) ∧ (¬ ((W32 ((jf s 40 x0 17) - 1)) < x1)))) <;> (first | rw [if_pos hP] | rw [if_neg hP]) <;> (try simp only [jlt, jix, jdv, jrd, Option.bind_some]) <;> (repeat' split) <;> first | rfl | (exfalso; omega) | (simp_all; done) | (simp_all; omega)) | grind (splits := 40) [jlt, jix, jdv, jrd]))
set_option maxHeartbeats 20000 in
theorem e_X36_isPiece (s : jS) (x0 x1 : Int) : m_X36_isPiece s x0 x1 = some (if ¬ (x1 < 0) ∧ (¬ ((W32 ((jf s 40 x0 16) - 1)) < x1)) then 1 else 0) := by
  rw [em_X36_isPiece]; unfold dm_X36_isPiece
  all_goals first | rfl | ((try simp (disch := grind) only [e_X36_in, Option.bind_some, jlet, Wz_0, Wz_1, Wz_if, L_cmp_0, L_cmp_lt, L_cmp_gt]); all_goals (first | rfl | ((by_cases hP : (¬ (x1 < 0) ∧ (¬ ((W32 ((jf s 40 x0 16) - 1)) < x1)))) <;> (first | rw [if_pos hP] | rw [if_neg hP]) <;> (try simp only [jlt, jix, jdv, jrd, Option.bind_some]) <;> (repeat' split) <;> first | rfl | (exfalso; omega) | (simp_all; done) | (simp_all; omega)) | grind (splits := 40) [jlt, jix, jdv, jrd]))
set_option maxHeartbeats 20000 in
theorem e_X36_up (s : jS) (x0 x1 : Int) : m_X36_up s x0 x1 = some ((I_shl (I_shr (W32 ((W32 (x0 + (I_shl 1 x1))) - 1)) x1) x1)) := by
  rw [em_X36_up]; unfold dm_X36_up
  repeat' (first | refine jite (fun _ => ?_) (fun _ => ?_) | rw [jz] | rw [Option.bind_some])
  all_goals first | rfl | ((try simp (disch := grind) only [Option.bind_some, jlet, Wz_0, Wz_1, Wz_if, L_cmp_0, L_cmp_lt, L_cmp_gt]); all_goals (first | rfl | (simp only [apply_ite some]; done) | ((try simp only [jlt, jix, jdv, jrd, Option.bind_some]); ((repeat' split) <;> first | rfl | omega | (simp_all; done) | (simp_all; omega)); done) | grind (splits := 40) [jlt, jix, jdv, jrd]))
set_option maxHeartbeats 20000 in
theorem e_X36_gp (s : jS) (x0 : Int) : m_X36_gp s x0 = some ((W32 ((jf s 1000 (x0 + 9) 2) + 2048))) := by
  rw [em_X36_gp]; unfold dm_X36_gp
  repeat' (first | refine jite (fun _ => ?_) (fun _ => ?_) | rw [jz] | rw [Option.bind_some])
  all_goals first | rfl | ((try simp (disch := grind) only [Option.bind_some, jlet, Wz_0, Wz_1, Wz_if, L_cmp_0, L_cmp_lt, L_cmp_gt]); all_goals (first | rfl | (simp only [apply_ite some]; done) | ((try simp only [jlt, jix, jdv, jrd, Option.bind_some]); ((repeat' split) <;> first | rfl | omega | (simp_all; done) | (simp_all; omega)); done) | grind (splits := 40) [jlt, jix, jdv, jrd]))
set_option maxHeartbeats 20000 in
theorem e_X44_isFirst (s : jS) (x0 : Int) : m_X44_isFirst s x0 = some (if ((jf s 53 x0 5) = 5) ∧ (((jf s 53 x0 7) = 40) ∨ (((jf s 53 x0 7) = 45) ∨ (((jf s 53 x0 7) = 126) ∨ ((jf s 53 x0 7) = 37)))) ∨ ¬ ((jf s 53 x0 5) = 5) ∧ (¬ ((jf s 53 x0 5) = 0)) then 1 else 0) := by
  rw [em_X44_isFirst]; unfold dm_X44_isFirst
  all_goals first | rfl | ((try simp (disch := grind) only [Option.bind_some, jlet, Wz_0, Wz_1, Wz_if, L_cmp_0, L_cmp_lt, L_cmp_gt]); all_goals (first | rfl | ((by_cases hP : (((jf s 53 x0 5) = 5) ∧ (((jf s 53 x0 7) = 40) ∨ (((jf s 53 x0 7) = 45) ∨ (((jf s 53 x0 7) = 126) ∨ ((jf s 53 x0 7) = 37)))) ∨ ¬ ((jf s 53 x0 5) = 5) ∧ (¬ ((jf s 53 x0 5) = 0)))) <;> (first | rw [if_pos hP] | rw [if_neg hP]) <;> (try simp only [jlt, jix, jdv, jrd, Option.bind_some]) <;> (repeat' split) <;> first | rfl | (exfalso; omega) | (simp_all; done) | (simp_all; omega)) | grind (splits := 40) [jlt, jix, jdv, jrd]))
set_option maxHeartbeats 20000 in
theorem e_J15_canEncode (s : jS) (x0 : Int) : m_J15_canEncode s x0 = some (if ¬ (255 < x0) then 1 else 0) := by
  rw [em_J15_canEncode]; unfold dm_J15_canEncode
  all_goals first | rfl | ((try simp (disch := grind) only [Option.bind_some, jlet, Wz_0, Wz_1, Wz_if, L_cmp_0, L_cmp_lt, L_cmp_gt]); all_goals (first | rfl | ((by_cases hP : (¬ (255 < x0))) <;> (first | rw [if_pos hP] | rw [if_neg hP]) <;> (try simp only [jlt, jix, jdv, jrd, Option.bind_some]) <;> (repeat' split) <;> first | rfl | (exfalso; omega) | (simp_all; done) | (simp_all; omega)) | grind (splits := 40) [jlt, jix, jdv, jrd]))
def v_J16_numberOfLeadingZeros (x0 : Int) : Int := if 0 < x0 then if x0 < 65536 then if x0 < 256 then if x0 < 16 then if x0 < 4 then (W32 (31 - (I_ushr x0 1))) else (W32 ((W32 (31 + (-2))) - (I_ushr (I_ushr x0 2) 1))) else if (I_ushr x0 4) < 4 then (W32 ((W32 (31 + (-4))) - (I_ushr (I_ushr x0 4) 1))) else (W32 ((W32 ((W32 (31 + (-4))) + (-2))) - (I_ushr (I_ushr (I_ushr x0 4) 2) 1))) else if (I_ushr x0 8) < 16 then if (I_ushr x0 8) < 4 then (W32 ((W32 (31 + (-8))) - (I_ushr (I_ushr x0 8) 1))) else (W32 ((W32 ((W32 (31 + (-8))) + (-2))) - (I_ushr (I_ushr (I_ushr x0 8) 2) 1))) else if (I_ushr (I_ushr x0 8) 4) < 4 then (W32 ((W32 ((W32 (31 + (-8))) + (-4))) - (I_ushr (I_ushr (I_ushr x0 8) 4) 1))) else (W32 ((W32 ((W32 ((W32 (31 + (-8))) + (-4))) + (-2))) - (I_ushr (I_ushr (I_ushr (I_ushr x0 8) 4) 2) 1))) else if (I_ushr x0 16) < 256 then if (I_ushr x0 16) < 16 then if (I_ushr x0 16) < 4 then (W32 ((W32 (31 + (-16))) - (I_ushr (I_ushr x0 16) 1))) else (W32 ((W32 ((W32 (31 + (-16))) + (-2))) - (I_ushr (I_ushr (I_ushr x0 16) 2) 1))) else if (I_ushr (I_ushr x0 16) 4) < 4 then (W32 ((W32 ((W32 (31 + (-16))) + (-4))) - (I_ushr (I_ushr (I_ushr x0 16) 4) 1))) else (W32 ((W32 ((W32 ((W32 (31 + (-16))) + (-4))) + (-2))) - (I_ushr (I_ushr (I_ushr (I_ushr x0 16) 4) 2) 1))) else if (I_ushr (I_ushr x0 16) 8) < 16 then if (I_ushr (I_ushr x0 16) 8) < 4 then (W32 ((W32 ((W32 (31 + (-16))) + (-8))) - (I_ushr (I_ushr (I_ushr x0 16) 8) 1))) else (W32 ((W32 ((W32 ((W32 (31 + (-16))) + (-8))) + (-2))) - (I_ushr (I_ushr (I_ushr (I_ushr x0 16) 8) 2) 1))) else if (I_ushr (I_ushr (I_ushr x0 16) 8) 4) < 4 then (W32 ((W32 ((W32 ((W32 (31 + (-16))) + (-8))) + (-4))) - (I_ushr (I_ushr (I_ushr (I_ushr x0 16) 8) 4) 1))) else (W32 ((W32 ((W32 ((W32 ((W32 (31 + (-16))) + (-8))) + (-4))) + (-2))) - (I_ushr (I_ushr (I_ushr (I_ushr (I_ushr x0 16) 8) 4) 2) 1))) else if x0 = 0 then 32 else 0
set_option maxHeartbeats 20000 in
theorem e_J16_numberOfLeadingZeros (s : jS) (x0 : Int) : m_J16_numberOfLeadingZeros s x0 = some (v_J16_numberOfLeadingZeros x0) := by
  rw [em_J16_numberOfLeadingZeros]; unfold dm_J16_numberOfLeadingZeros
  unfold v_J16_numberOfLeadingZeros
  repeat' (first | refine jite (fun _ => ?_) (fun _ => ?_) | rw [jz] | rw [Option.bind_some] | (rw [eu_J16_numberOfLeadingZeros_33]; unfold du_J16_numberOfLeadingZeros_33) | (rw [eu_J16_numberOfLeadingZeros_48]; unfold du_J16_numberOfLeadingZeros_48) | (rw [eu_J16_numberOfLeadingZeros_61]; unfold du_J16_numberOfLeadingZeros_61) | (rw [eu_J16_numberOfLeadingZeros_73]; unfold du_J16_numberOfLeadingZeros_73))
  all_goals first | rfl | ((try simp (disch := grind) only [eu_J16_numberOfLeadingZeros_33, du_J16_numberOfLeadingZeros_33, eu_J16_numberOfLeadingZeros_48, du_J16_numberOfLeadingZeros_48, eu_J16_numberOfLeadingZeros_61, du_J16_numberOfLeadingZeros_61, eu_J16_numberOfLeadingZeros_73, du_J16_numberOfLeadingZeros_73, Option.bind_some, jlet, Wz_0, Wz_1, Wz_if, L_cmp_0, L_cmp_lt, L_cmp_gt]); all_goals (first | rfl | (simp only [v_J16_numberOfLeadingZeros, apply_ite some]; done) | ((try simp only [jlt, jix, jdv, jrd, Option.bind_some]); ((repeat' split) <;> first | rfl | omega | (simp_all; done) | (simp_all; omega)); done) | grind (splits := 40) [jlt, jix, jdv, jrd, v_J16_numberOfLeadingZeros]))
def v_X51_width (x0 x1 : Int) : Int := if x0 = 1 then 4 else if x0 = 2 then (-1) else if x0 = 3 then (-1) else if x0 = 4 then (-1) else if x0 = 5 then (-1) else if x0 = 6 then (-1) else if x0 = 7 then (-1) else if x0 = 8 then (-1) else if x0 = 9 then (-1) else if x0 = 10 then (-1) else if x0 = 11 then (-1) else if x0 = 12 then (-1) else if x0 = 13 then (-1) else if x0 = 14 then (-1) else if x0 = 15 then (-1) else if x0 = 16 then 4 else if x0 = 17 then 4 else if x0 = 18 then (-1) else if x0 = 19 then 8 else if x0 = 20 then (-1) else if x0 = 21 then (-1) else if x0 = 22 then (-1) else if x0 = 23 then 4 else if x0 = 24 then 4 else if x0 = 25 then 4 else if x0 = 26 then 4 else if x0 = 27 then 4 else if x0 = 28 then 4 else if x0 = 29 then (-1) else if x0 = 30 then (-1) else if x0 = 31 then (-1) else if x0 = 32 then (-1) else if x0 = 33 then 1 else if x0 = 34 then 2 else if x0 = 35 then 4 else if x0 = 36 then (-1) else if x0 = 37 then 1 else if x0 = 38 then 2 else if x0 = 39 then 4 else if x0 = 40 then (-1) else if x0 = 41 then (-1) else if x0 = 42 then (-1) else if x0 = 43 then x1 else if x0 = 44 then 2 else if x0 = 45 then 2 else if x0 = 46 then (-1) else if x0 = 47 then (-1) else if x0 = 48 then (-1) else if x0 = 49 then (-1) else if x0 = 50 then (-1) else if x0 = 51 then 0 else (-1)
set_option maxHeartbeats 20000 in
theorem e_X51_width (s : jS) (x0 x1 : Int) : m_X51_width s x0 x1 = some (v_X51_width x0 x1) := by
  rw [em_X51_width]; unfold dm_X51_width
  unfold v_X51_width
  repeat' (first | refine jite (fun _ => ?_) (fun _ => ?_) | rw [jz] | rw [Option.bind_some])
  all_goals first | rfl | ((try simp (disch := grind) only [Option.bind_some, jlet, Wz_0, Wz_1, Wz_if, L_cmp_0, L_cmp_lt, L_cmp_gt]); all_goals (first | rfl | (simp only [v_X51_width, apply_ite some]; done) | ((try simp only [jlt, jix, jdv, jrd, Option.bind_some]); ((repeat' split) <;> first | rfl | omega | (simp_all; done) | (simp_all; omega)); done) | grind (splits := 40) [jlt, jix, jdv, jrd, v_X51_width]))
set_option maxHeartbeats 20000 in
theorem e_X51_isAddend (s : jS) (x0 x1 : Int) : m_X51_isAddend s x0 x1 = some (if ¬ (x0 = 43) ∨ ((¬ (x1 < 0) ∧ (¬ (62 < x1))) ∧ ((I_rem x1 2) = 0)) then 1 else 0) := by
  rw [em_X51_isAddend]; unfold dm_X51_isAddend
  all_goals first | rfl | ((try simp (disch := grind) only [e_X13_in, Option.bind_some, jlet, Wz_0, Wz_1, Wz_if, L_cmp_0, L_cmp_lt, L_cmp_gt]); all_goals (first | rfl | ((by_cases hP : (¬ (x0 = 43) ∨ ((¬ (x1 < 0) ∧ (¬ (62 < x1))) ∧ ((I_rem x1 2) = 0)))) <;> (first | rw [if_pos hP] | rw [if_neg hP]) <;> (try simp only [jlt, jix, jdv, jrd, Option.bind_some]) <;> (repeat' split) <;> first | rfl | (exfalso; omega) | (simp_all; done) | (simp_all; omega)) | grind (splits := 40) [jlt, jix, jdv, jrd]))
set_option maxHeartbeats 20000 in
theorem e_X51_isPlain (s : jS) (x0 : Int) : m_X51_isPlain s x0 = some (if (x0 = 43) ∨ (x0 = 51) then 1 else 0) := by
  rw [em_X51_isPlain]; unfold dm_X51_isPlain
  all_goals first | rfl | ((try simp (disch := grind) only [Option.bind_some, jlet, Wz_0, Wz_1, Wz_if, L_cmp_0, L_cmp_lt, L_cmp_gt]); all_goals (first | rfl | ((by_cases hP : ((x0 = 43) ∨ (x0 = 51))) <;> (first | rw [if_pos hP] | rw [if_neg hP]) <;> (try simp only [jlt, jix, jdv, jrd, Option.bind_some]) <;> (repeat' split) <;> first | rfl | (exfalso; omega) | (simp_all; done) | (simp_all; omega)) | grind (splits := 40) [jlt, jix, jdv, jrd]))
set_option maxHeartbeats 20000 in
theorem e_X54_canBe (s : jS) (x0 x1 : Int) : m_X54_canBe s x0 x1 = some (if ¬ (x1 < 0) ∧ (¬ ((jf s 72 x0 3) < x1)) then 1 else 0) := by
  rw [em_X54_canBe]; unfold dm_X54_canBe
  all_goals first | rfl | ((try simp (disch := grind) only [e_X36_in, Option.bind_some, jlet, Wz_0, Wz_1, Wz_if, L_cmp_0, L_cmp_lt, L_cmp_gt]); all_goals (first | rfl | ((by_cases hP : (¬ (x1 < 0) ∧ (¬ ((jf s 72 x0 3) < x1)))) <;> (first | rw [if_pos hP] | rw [if_neg hP]) <;> (try simp only [jlt, jix, jdv, jrd, Option.bind_some]) <;> (repeat' split) <;> first | rfl | (exfalso; omega) | (simp_all; done) | (simp_all; omega)) | grind (splits := 40) [jlt, jix, jdv, jrd]))
set_option maxHeartbeats 20000 in
theorem e_X54_size (s : jS) (x0 : Int) : m_X54_size s x0 = some ((jf s 72 x0 3)) := by
  rw [em_X54_size]; unfold dm_X54_size
  repeat' (first | refine jite (fun _ => ?_) (fun _ => ?_) | rw [jz] | rw [Option.bind_some])
  all_goals first | rfl | ((try simp (disch := grind) only [Option.bind_some, jlet, Wz_0, Wz_1, Wz_if, L_cmp_0, L_cmp_lt, L_cmp_gt]); all_goals (first | rfl | (simp only [apply_ite some]; done) | ((try simp only [jlt, jix, jdv, jrd, Option.bind_some]); ((repeat' split) <;> first | rfl | omega | (simp_all; done) | (simp_all; omega)); done) | grind (splits := 40) [jlt, jix, jdv, jrd]))
set_option maxHeartbeats 20000 in
theorem e_X54_moving (s : jS) (x0 : Int) : m_X54_moving s x0 = some ((-1)) := by
  rw [em_X54_moving]; unfold dm_X54_moving
  repeat' (first | refine jite (fun _ => ?_) (fun _ => ?_) | rw [jz] | rw [Option.bind_some])
  all_goals first | rfl | ((try simp (disch := grind) only [Option.bind_some, jlet, Wz_0, Wz_1, Wz_if, L_cmp_0, L_cmp_lt, L_cmp_gt]); all_goals (first | rfl | (simp only [apply_ite some]; done) | ((try simp only [jlt, jix, jdv, jrd, Option.bind_some]); ((repeat' split) <;> first | rfl | omega | (simp_all; done) | (simp_all; omega)); done) | grind (splits := 40) [jlt, jix, jdv, jrd]))
set_option maxHeartbeats 20000 in
theorem e_X54_sort (s : jS) (x0 : Int) : m_X54_sort s x0 = some (0) := by
  rw [em_X54_sort]; unfold dm_X54_sort
  repeat' (first | refine jite (fun _ => ?_) (fun _ => ?_) | rw [jz] | rw [Option.bind_some])
  all_goals first | rfl | ((try simp (disch := grind) only [Option.bind_some, jlet, Wz_0, Wz_1, Wz_if, L_cmp_0, L_cmp_lt, L_cmp_gt]); all_goals (first | rfl | (simp only [apply_ite some]; done) | ((try simp only [jlt, jix, jdv, jrd, Option.bind_some]); ((repeat' split) <;> first | rfl | omega | (simp_all; done) | (simp_all; omega)); done) | grind (splits := 40) [jlt, jix, jdv, jrd]))
set_option maxHeartbeats 20000 in
theorem e_X54_behind (s : jS) (x0 x1 : Int) : m_X54_behind s x0 x1 = some (x1) := by
  rw [em_X54_behind]; unfold dm_X54_behind
  repeat' (first | refine jite (fun _ => ?_) (fun _ => ?_) | rw [jz] | rw [Option.bind_some])
  all_goals first | rfl | ((try simp (disch := grind) only [Option.bind_some, jlet, Wz_0, Wz_1, Wz_if, L_cmp_0, L_cmp_lt, L_cmp_gt]); all_goals (first | rfl | (simp only [apply_ite some]; done) | ((try simp only [jlt, jix, jdv, jrd, Option.bind_some]); ((repeat' split) <;> first | rfl | omega | (simp_all; done) | (simp_all; omega)); done) | grind (splits := 40) [jlt, jix, jdv, jrd]))
set_option maxHeartbeats 20000 in
theorem e_X55_canBe (s : jS) (x0 x1 : Int) : m_X55_canBe s x0 x1 = some (if ¬ (x1 < 0) ∧ (¬ (1 < x1)) then 1 else 0) := by
  rw [em_X55_canBe]; unfold dm_X55_canBe
  all_goals first | rfl | ((try simp (disch := grind) only [e_X36_in, Option.bind_some, jlet, Wz_0, Wz_1, Wz_if, L_cmp_0, L_cmp_lt, L_cmp_gt]); all_goals (first | rfl | ((by_cases hP : (¬ (x1 < 0) ∧ (¬ (1 < x1)))) <;> (first | rw [if_pos hP] | rw [if_neg hP]) <;> (try simp only [jlt, jix, jdv, jrd, Option.bind_some]) <;> (repeat' split) <;> first | rfl | (exfalso; omega) | (simp_all; done) | (simp_all; omega)) | grind (splits := 40) [jlt, jix, jdv, jrd]))
set_option maxHeartbeats 20000 in
theorem e_X55_lack (s : jS) (x0 : Int) : m_X55_lack s x0 = some ((W32 ((I_shl (I_shr (W32 ((W32 ((jf s 73 x0 1) + (I_shl 1 (jf s 73 x0 3)))) - 1)) (jf s 73 x0 3)) (jf s 73 x0 3)) - (jf s 73 x0 1)))) := by
  rw [em_X55_lack]; unfold dm_X55_lack
  repeat' (first | refine jite (fun _ => ?_) (fun _ => ?_) | rw [jz] | rw [Option.bind_some] | rw [e_X36_up])
  all_goals first | rfl | ((try simp (disch := grind) only [e_X36_up, Option.bind_some, jlet, Wz_0, Wz_1, Wz_if, L_cmp_0, L_cmp_lt, L_cmp_gt]); all_goals (first | rfl | (simp only [apply_ite some]; done) | ((try simp only [jlt, jix, jdv, jrd, Option.bind_some]); ((repeat' split) <;> first | rfl | omega | (simp_all; done) | (simp_all; omega)); done) | grind (splits := 40) [jlt, jix, jdv, jrd]))
set_option maxHeartbeats 20000 in
theorem e_X55_moving (s : jS) (x0 : Int) : m_X55_moving s x0 = some ((-1)) := by
  rw [em_X55_moving]; unfold dm_X55_moving
  repeat' (first | refine jite (fun _ => ?_) (fun _ => ?_) | rw [jz] | rw [Option.bind_some])
  all_goals first | rfl | ((try simp (disch := grind) only [Option.bind_some, jlet, Wz_0, Wz_1, Wz_if, L_cmp_0, L_cmp_lt, L_cmp_gt]); all_goals (first | rfl | (simp only [apply_ite some]; done) | ((try simp only [jlt, jix, jdv, jrd, Option.bind_some]); ((repeat' split) <;> first | rfl | omega | (simp_all; done) | (simp_all; omega)); done) | grind (splits := 40) [jlt, jix, jdv, jrd]))
set_option maxHeartbeats 20000 in
theorem e_X55_sort (s : jS) (x0 : Int) : m_X55_sort s x0 = some (4) := by
  rw [em_X55_sort]; unfold dm_X55_sort
  repeat' (first | refine jite (fun _ => ?_) (fun _ => ?_) | rw [jz] | rw [Option.bind_some])
  all_goals first | rfl | ((try simp (disch := grind) only [Option.bind_some, jlet, Wz_0, Wz_1, Wz_if, L_cmp_0, L_cmp_lt, L_cmp_gt]); all_goals (first | rfl | (simp only [apply_ite some]; done) | ((try simp only [jlt, jix, jdv, jrd, Option.bind_some]); ((repeat' split) <;> first | rfl | omega | (simp_all; done) | (simp_all; omega)); done) | grind (splits := 40) [jlt, jix, jdv, jrd]))
set_option maxHeartbeats 20000 in
theorem e_X55_isShort (s : jS) (x0 : Int) : m_X55_isShort s x0 = some (if (jf s 73 x0 4) < (W32 ((I_shl (I_shr (W32 ((W32 ((jf s 73 x0 1) + (I_shl 1 (jf s 73 x0 3)))) - 1)) (jf s 73 x0 3)) (jf s 73 x0 3)) - (jf s 73 x0 1))) then 1 else 0) := by
  rw [em_X55_isShort]; unfold dm_X55_isShort
  all_goals first | rfl | ((try simp (disch := grind) only [e_X55_lack, Option.bind_some, jlet, Wz_0, Wz_1, Wz_if, L_cmp_0, L_cmp_lt, L_cmp_gt]); all_goals (first | rfl | ((by_cases hP : ((jf s 73 x0 4) < (W32 ((I_shl (I_shr (W32 ((W32 ((jf s 73 x0 1) + (I_shl 1 (jf s 73 x0 3)))) - 1)) (jf s 73 x0 3)) (jf s 73 x0 3)) - (jf s 73 x0 1))))) <;> (first | rw [if_pos hP] | rw [if_neg hP]) <;> (try simp only [jlt, jix, jdv, jrd, Option.bind_some]) <;> (repeat' split) <;> first | rfl | (exfalso; omega) | (simp_all; done) | (simp_all; omega)) | grind (splits := 40) [jlt, jix, jdv, jrd]))
set_option maxHeartbeats 20000 in
theorem e_X57_canBe (s : jS) (x0 x1 : Int) : m_X57_canBe s x0 x1 = some (if ¬ (x1 < 0) ∧ (¬ (1 < x1)) then 1 else 0) := by
  rw [em_X57_canBe]; unfold dm_X57_canBe
  all_goals first | rfl | ((try simp (disch := grind) only [e_X36_in, Option.bind_some, jlet, Wz_0, Wz_1, Wz_if, L_cmp_0, L_cmp_lt, L_cmp_gt]); all_goals (first | rfl | ((by_cases hP : (¬ (x1 < 0) ∧ (¬ (1 < x1)))) <;> (first | rw [if_pos hP] | rw [if_neg hP]) <;> (try simp only [jlt, jix, jdv, jrd, Option.bind_some]) <;> (repeat' split) <;> first | rfl | (exfalso; omega) | (simp_all; done) | (simp_all; omega)) | grind (splits := 40) [jlt, jix, jdv, jrd]))
set_option maxHeartbeats 20000 in
theorem e_X57_moving (s : jS) (x0 : Int) : m_X57_moving s x0 = some (x0) := by
  rw [em_X57_moving]; unfold dm_X57_moving
  repeat' (first | refine jite (fun _ => ?_) (fun _ => ?_) | rw [jz] | rw [Option.bind_some])
  all_goals first | rfl | ((try simp (disch := grind) only [Option.bind_some, jlet, Wz_0, Wz_1, Wz_if, L_cmp_0, L_cmp_lt, L_cmp_gt]); all_goals (first | rfl | (simp only [apply_ite some]; done) | ((try simp only [jlt, jix, jdv, jrd, Option.bind_some]); ((repeat' split) <;> first | rfl | omega | (simp_all; done) | (simp_all; omega)); done) | grind (splits := 40) [jlt, jix, jdv, jrd]))
set_option maxHeartbeats 20000 in
theorem e_X58_greatest (s : jS) (x0 : Int) : m_X58_greatest s x0 = some (8) := by
  rw [em_X58_greatest]; unfold dm_X58_greatest
  repeat' (first | refine jite (fun _ => ?_) (fun _ => ?_) | rw [jz] | rw [Option.bind_some])
  all_goals first | rfl | ((try simp (disch := grind) only [Option.bind_some, jlet, Wz_0, Wz_1, Wz_if, L_cmp_0, L_cmp_lt, L_cmp_gt]); all_goals (first | rfl | (simp only [apply_ite some]; done) | ((try simp only [jlt, jix, jdv, jrd, Option.bind_some]); ((repeat' split) <;> first | rfl | omega | (simp_all; done) | (simp_all; omega)); done) | grind (splits := 40) [jlt, jix, jdv, jrd]))
set_option maxHeartbeats 20000 in
theorem e_X58_sort (s : jS) (x0 : Int) : m_X58_sort s x0 = some (1) := by
  rw [em_X58_sort]; unfold dm_X58_sort
  repeat' (first | refine jite (fun _ => ?_) (fun _ => ?_) | rw [jz] | rw [Option.bind_some])
  all_goals first | rfl | ((try simp (disch := grind) only [Option.bind_some, jlet, Wz_0, Wz_1, Wz_if, L_cmp_0, L_cmp_lt, L_cmp_gt]); all_goals (first | rfl | (simp only [apply_ite some]; done) | ((try simp only [jlt, jix, jdv, jrd, Option.bind_some]); ((repeat' split) <;> first | rfl | omega | (simp_all; done) | (simp_all; omega)); done) | grind (splits := 40) [jlt, jix, jdv, jrd]))
def v_X58_least (s : jS) (x0 x1 x3 : Int) : Int := if (L_and (W64 (x1 - (jf s 76 x0 5))) 1) = 0 then if (jf s 76 x0 7) = 0 then if ¬ ((W64 (x1 - (jf s 76 x0 5))) < (-1048576)) ∧ (¬ (1048574 < (W64 (x1 - (jf s 76 x0 5))))) then 4 else 8 else if ¬ ((W64 (x1 - (jf s 76 x0 5))) < (-2048)) ∧ (¬ (2046 < (W64 (x1 - (jf s 76 x0 5))))) then 2 else if ¬ ((W64 (x1 - (jf s 76 x0 5))) < (-1048576)) ∧ (¬ (1048574 < (W64 (x1 - (jf s 76 x0 5))))) then 4 else 8 else 8
set_option maxHeartbeats 20000 in
theorem e_X58_least (s : jS) (x0 x1 x3 : Int) : m_X58_least s x0 x1 x3 = some (v_X58_least s x0 x1 x3) := by
  rw [em_X58_least]; unfold dm_X58_least
  unfold v_X58_least
  repeat' (first | refine jite (fun _ => ?_) (fun _ => ?_) | rw [jz] | rw [Option.bind_some] | rw [e_X36_in] | (rw [eu_X58_least_46]; unfold du_X58_least_46))
  all_goals first | rfl | ((try simp (disch := grind) only [eu_X58_least_46, du_X58_least_46, e_X36_in, Option.bind_some, jlet, Wz_0, Wz_1, Wz_if, L_cmp_0, L_cmp_lt, L_cmp_gt]); all_goals (first | rfl | (simp only [v_X58_least, apply_ite some]; done) | ((try simp only [jlt, jix, jdv, jrd, Option.bind_some]); ((repeat' split) <;> first | rfl | omega | (simp_all; done) | (simp_all; omega)); done) | grind (splits := 40) [jlt, jix, jdv, jrd, v_X58_least]))
set_option maxHeartbeats 20000 in
theorem e_X59_greatest (s : jS) (x0 : Int) : m_X59_greatest s x0 = some (4) := by
  rw [em_X59_greatest]; unfold dm_X59_greatest
  repeat' (first | refine jite (fun _ => ?_) (fun _ => ?_) | rw [jz] | rw [Option.bind_some])
  all_goals first | rfl | ((try simp (disch := grind) only [Option.bind_some, jlet, Wz_0, Wz_1, Wz_if, L_cmp_0, L_cmp_lt, L_cmp_gt]); all_goals (first | rfl | (simp only [apply_ite some]; done) | ((try simp only [jlt, jix, jdv, jrd, Option.bind_some]); ((repeat' split) <;> first | rfl | omega | (simp_all; done) | (simp_all; omega)); done) | grind (splits := 40) [jlt, jix, jdv, jrd]))
set_option maxHeartbeats 20000 in
theorem e_X59_sort (s : jS) (x0 : Int) : m_X59_sort s x0 = some (if (jf s 77 x0 7) = 0 then 3 else 2) := by
  rw [em_X59_sort]; unfold dm_X59_sort
  repeat' (first | refine jite (fun _ => ?_) (fun _ => ?_) | rw [jz] | rw [Option.bind_some])
  all_goals first | rfl | ((try simp (disch := grind) only [Option.bind_some, jlet, Wz_0, Wz_1, Wz_if, L_cmp_0, L_cmp_lt, L_cmp_gt]); all_goals (first | rfl | (simp only [apply_ite some]; done) | ((try simp only [jlt, jix, jdv, jrd, Option.bind_some]); ((repeat' split) <;> first | rfl | omega | (simp_all; done) | (simp_all; omega)); done) | grind (splits := 40) [jlt, jix, jdv, jrd]))
def v_X59_least (s : jS) (x0 x1 x3 : Int) : Int := if ¬ (x1 < (-2048)) ∧ (¬ (2047 < x1)) then 0 else if ¬ ((W64 (x1 - x3)) < (-2048)) ∧ (¬ (2047 < (W64 (x1 - x3)))) then 0 else if (jf s 77 x0 7) = 0 then 4 else if (jf s 77 x0 8) = 0 then 4 else if ¬ ((L_shr (W64 (x1 + 2048)) 12) < 1) ∧ (¬ (31 < (L_shr (W64 (x1 + 2048)) 12))) then 2 else 4
set_option maxHeartbeats 20000 in
theorem e_X59_least (s : jS) (x0 x1 x3 : Int) : m_X59_least s x0 x1 x3 = some (v_X59_least s x0 x1 x3) := by
  rw [em_X59_least]; unfold dm_X59_least
  unfold v_X59_least
  repeat' (first | refine jite (fun _ => ?_) (fun _ => ?_) | rw [jz] | rw [Option.bind_some] | rw [e_X36_in])
  all_goals first | rfl | ((try simp (disch := grind) only [e_X36_in, Option.bind_some, jlet, Wz_0, Wz_1, Wz_if, L_cmp_0, L_cmp_lt, L_cmp_gt]); all_goals (first | rfl | (simp only [v_X59_least, apply_ite some]; done) | ((try simp only [jlt, jix, jdv, jrd, Option.bind_some]); ((repeat' split) <;> first | rfl | omega | (simp_all; done) | (simp_all; omega)); done) | grind (splits := 40) [jlt, jix, jdv, jrd, v_X59_least]))
set_option maxHeartbeats 20000 in
theorem e_X1_size (s : jS) (x0 x1 : Int) : m_X1_size s x0 x1 = some (if x1 = (-1) then (jf s 29 ((x0 + 3992) + 19) 1) else if ¬ (x1 < 0) ∧ (x1 < 6) then (jf s 23 (((x0 + 275) + 4041 + 1858 * x1) + 1229) 1) else (-1)) := by
  rw [em_X1_size]; unfold dm_X1_size
  repeat' (first | refine jite (fun _ => ?_) (fun _ => ?_) | rw [jz] | rw [Option.bind_some] | rw [e_X13_size] | rw [e_X1_isUnit] | rw [e_X22_size])
  all_goals first | rfl | ((try simp (disch := grind) only [e_X13_size, e_X1_isUnit, e_X22_size, Option.bind_some, jlet, Wz_0, Wz_1, Wz_if, L_cmp_0, L_cmp_lt, L_cmp_gt]); all_goals (first | rfl | (simp only [apply_ite some]; done) | ((try simp only [jlt, jix, jdv, jrd, Option.bind_some]); ((repeat' split) <;> first | rfl | omega | (simp_all; done) | (simp_all; omega)); done) | grind (splits := 40) [jlt, jix, jdv, jrd]))
set_option maxHeartbeats 20000 in
theorem e_X1_get (s : jS) (x0 x1 : Int) : m_X1_get s x0 x1 = some ((if x1 = 32 then (jf s 33 (x0 + 4029) 10) else if x1 < 0 then 0 else if x1 < 32 then (jf s 1000 ((x0 + 4029) + 4) x1) else 0)) := by
  rw [em_X1_get]; unfold dm_X1_get
  repeat' (first | refine jite (fun _ => ?_) (fun _ => ?_) | rw [jz] | rw [Option.bind_some] | rw [e_X29_get])
  all_goals first | rfl | ((try simp (disch := grind) only [e_X29_get, Option.bind_some, jlet, Wz_0, Wz_1, Wz_if, L_cmp_0, L_cmp_lt, L_cmp_gt]); all_goals (first | rfl | (simp only [apply_ite some]; done) | ((try simp only [jlt, jix, jdv, jrd, Option.bind_some]); ((repeat' split) <;> first | rfl | omega | (simp_all; done) | (simp_all; omega)); done) | grind (splits := 40) [jlt, jix, jdv, jrd]))
set_option maxHeartbeats 20000 in
theorem e_X1_peek (s : jS) (x0 x1 : Int) : m_X1_peek s x0 x1 = some ((if (x1 < 0) ∨ (¬ (x1 < 131072)) then (-1) else (I_and (jf s 1001 ((x0 + 4029) + 1) x1) 255))) := by
  rw [em_X1_peek]; unfold dm_X1_peek
  repeat' (first | refine jite (fun _ => ?_) (fun _ => ?_) | rw [jz] | rw [Option.bind_some] | rw [e_X29_peek])
  all_goals first | rfl | ((try simp (disch := grind) only [e_X29_peek, Option.bind_some, jlet, Wz_0, Wz_1, Wz_if, L_cmp_0, L_cmp_lt, L_cmp_gt]); all_goals (first | rfl | (simp only [apply_ite some]; done) | ((try simp only [jlt, jix, jdv, jrd, Option.bind_some]); ((repeat' split) <;> first | rfl | omega | (simp_all; done) | (simp_all; omega)); done) | grind (splits := 40) [jlt, jix, jdv, jrd]))
set_option maxHeartbeats 20000 in
theorem e_X1_state (s : jS) (x0 x1 : Int) : m_X1_state s x0 x1 = some ((v_X29_state s (x0 + 4029) x1)) := by
  rw [em_X1_state]; unfold dm_X1_state
  repeat' (first | refine jite (fun _ => ?_) (fun _ => ?_) | rw [jz] | rw [Option.bind_some] | rw [e_X29_state])
  all_goals first | rfl | ((try simp (disch := grind) only [e_X29_state, Option.bind_some, jlet, Wz_0, Wz_1, Wz_if, L_cmp_0, L_cmp_lt, L_cmp_gt]); all_goals (first | rfl | (simp only [apply_ite some]; done) | ((try simp only [jlt, jix, jdv, jrd, Option.bind_some]); ((repeat' split) <;> first | rfl | omega | (simp_all; done) | (simp_all; omega)); done) | grind (splits := 40) [jlt, jix, jdv, jrd]))
set_option maxHeartbeats 20000 in
theorem e_X1_output (s : jS) (x0 x1 : Int) (h0 : ¬ (x1 < 0) → x1 < (jf s 33 (x0 + 4029) 18) → (0 ≤ x1 ∧ x1 < 2000)) : m_X1_output s x0 x1 = some ((if x1 < 0 then (-1) else if x1 < (jf s 33 (x0 + 4029) 18) then (I_and (jf s 1001 ((x0 + 4029) + 7) x1) 255) else (-1))) := by
  rw [em_X1_output]; unfold dm_X1_output
  repeat' (first | refine jite (fun _ => ?_) (fun _ => ?_) | rw [jz] | rw [Option.bind_some])
  all_goals first | rfl | ((try simp (disch := grind) only [e_X29_output, Option.bind_some, jlet, Wz_0, Wz_1, Wz_if, L_cmp_0, L_cmp_lt, L_cmp_gt]); all_goals (first | rfl | (simp only [apply_ite some]; done) | ((try simp only [jlt, jix, jdv, jrd, Option.bind_some]); ((repeat' split) <;> first | rfl | omega | (simp_all; done) | (simp_all; omega)); done) | grind (splits := 40) [jlt, jix, jdv, jrd]))
set_option maxHeartbeats 20000 in
theorem e_X1_byteOrNothing (s : jS) (x0 x1 : Int) : m_X1_byteOrNothing s x0 x1 = some ((jmx 0 (if (x1 < 0) ∨ (¬ (x1 < 131072)) then (-1) else (I_and (jf s 1001 ((x0 + 4029) + 1) x1) 255)))) := by
  rw [em_X1_byteOrNothing]; unfold dm_X1_byteOrNothing
  repeat' (first | refine jite (fun _ => ?_) (fun _ => ?_) | rw [jz] | rw [Option.bind_some] | rw [e_X29_peek])
  all_goals first | rfl | ((try simp (disch := grind) only [e_X29_peek, Option.bind_some, jlet, Wz_0, Wz_1, Wz_if, L_cmp_0, L_cmp_lt, L_cmp_gt]); all_goals (first | rfl | (simp only [apply_ite some]; done) | ((try simp only [jlt, jix, jdv, jrd, Option.bind_some]); ((repeat' split) <;> first | rfl | omega | (simp_all; done) | (simp_all; omega)); done) | grind (splits := 40) [jlt, jix, jdv, jrd]))
set_option maxHeartbeats 20000 in
theorem e_X11_isBegin (s : jS) (x0 : Int) : m_X11_isBegin s x0 = some (if ((x0 < 97) ∧ (¬ (x0 < 65) ∧ (¬ (90 < x0))) ∨ ¬ (x0 < 97) ∧ (¬ (122 < x0) ∨ (¬ (x0 < 65) ∧ (¬ (90 < x0))))) ∨ ((x0 = 95) ∨ (x0 = 46)) then 1 else 0) := by
  rw [em_X11_isBegin]; unfold dm_X11_isBegin
  all_goals first | rfl | ((try simp (disch := grind) only [e_X11_isLetter, Option.bind_some, jlet, Wz_0, Wz_1, Wz_if, L_cmp_0, L_cmp_lt, L_cmp_gt]); all_goals (first | rfl | ((by_cases hP : (((x0 < 97) ∧ (¬ (x0 < 65) ∧ (¬ (90 < x0))) ∨ ¬ (x0 < 97) ∧ (¬ (122 < x0) ∨ (¬ (x0 < 65) ∧ (¬ (90 < x0))))) ∨ ((x0 = 95) ∨ (x0 = 46)))) <;> (first | rw [if_pos hP] | rw [if_neg hP]) <;> (try simp only [jlt, jix, jdv, jrd, Option.bind_some]) <;> (repeat' split) <;> first | rfl | (exfalso; omega) | (simp_all; done) | (simp_all; omega)) | grind (splits := 40) [jlt, jix, jdv, jrd]))
set_option maxHeartbeats 20000 in
theorem e_X11_isInside (s : jS) (x0 : Int) : m_X11_isInside s x0 = some (if (((x0 < 97) ∧ (¬ (x0 < 65) ∧ (¬ (90 < x0))) ∨ ¬ (x0 < 97) ∧ (¬ (122 < x0) ∨ (¬ (x0 < 65) ∧ (¬ (90 < x0))))) ∨ ((x0 = 95) ∨ (x0 = 46))) ∨ ((¬ (x0 < 48) ∧ (¬ (57 < x0))) ∨ (x0 = 36)) then 1 else 0) := by
  rw [em_X11_isInside]; unfold dm_X11_isInside
  all_goals first | rfl | ((try simp (disch := grind) only [e_X11_isBegin, e_X11_isDigit, Option.bind_some, jlet, Wz_0, Wz_1, Wz_if, L_cmp_0, L_cmp_lt, L_cmp_gt]); all_goals (first | rfl | ((by_cases hP : ((((x0 < 97) ∧ (¬ (x0 < 65) ∧ (¬ (90 < x0))) ∨ ¬ (x0 < 97) ∧ (¬ (122 < x0) ∨ (¬ (x0 < 65) ∧ (¬ (90 < x0))))) ∨ ((x0 = 95) ∨ (x0 = 46))) ∨ ((¬ (x0 < 48) ∧ (¬ (57 < x0))) ∨ (x0 = 36)))) <;> (first | rw [if_pos hP] | rw [if_neg hP]) <;> (try simp only [jlt, jix, jdv, jrd, Option.bind_some]) <;> (repeat' split) <;> first | rfl | (exfalso; omega) | (simp_all; done) | (simp_all; omega)) | grind (splits := 40) [jlt, jix, jdv, jrd]))
set_option maxHeartbeats 20000 in
theorem e_X13_byteAt (s : jS) (x0 x1 : Int) (h0 : (¬ (x1 < 0) ∧ (¬ ((W32 ((jf s 23 (x0 + 1229) 1) - 1)) < x1))) → (0 ≤ x1 ∧ x1 < (jN s ((x0 + 1229) + 1)))) : m_X13_byteAt s x0 x1 = some (if ¬ (x1 < 0) ∧ (¬ ((W32 ((jf s 23 (x0 + 1229) 1) - 1)) < x1)) then (I_and (jf s 1001 ((x0 + 1229) + 1) x1) 255) else (-1)) := by
  rw [em_X13_byteAt]; unfold dm_X13_byteAt
  repeat' (first | refine jite (fun _ => ?_) (fun _ => ?_) | rw [jz] | rw [Option.bind_some] | rw [e_X13_in])
  all_goals first | rfl | ((try simp (disch := grind) only [e_X13_in, e_X19_u1, Option.bind_some, jlet, Wz_0, Wz_1, Wz_if, L_cmp_0, L_cmp_lt, L_cmp_gt]); all_goals (first | rfl | (simp only [apply_ite some]; done) | ((try simp only [jlt, jix, jdv, jrd, Option.bind_some]); ((repeat' split) <;> first | rfl | omega | (simp_all; done) | (simp_all; omega)); done) | grind (splits := 40) [jlt, jix, jdv, jrd]))
def v_X13_section (s : jS) (x0 x1 x2 : Int) : Int := if ¬ (x1 < 0) ∧ (¬ (3 < x1)) then if ¬ (x2 < 0) ∧ (¬ (1 < x2)) then if x2 = 0 then (jf s 19 (((x0 + 614) + 1) + 4 + 2 * x1) 1) else (jf s 19 (((x0 + 614) + 1) + 4 + 2 * x1) 2) else (-1) else (-1)
set_option maxHeartbeats 20000 in
theorem e_X13_section (s : jS) (x0 x1 x2 : Int) : m_X13_section s x0 x1 x2 = some (v_X13_section s x0 x1 x2) := by
  rw [em_X13_section]; unfold dm_X13_section
  unfold v_X13_section
  repeat' (first | refine jite (fun _ => ?_) (fun _ => ?_) | rw [jz] | rw [Option.bind_some] | rw [e_X13_in])
  all_goals first | rfl | ((try simp (disch := grind) only [e_X13_in, e_X14_room, Option.bind_some, jlet, Wz_0, Wz_1, Wz_if, L_cmp_0, L_cmp_lt, L_cmp_gt]); all_goals (first | rfl | (simp only [v_X13_section, apply_ite some]; done) | ((try simp only [jlt, jix, jdv, jrd, Option.bind_some]); ((repeat' split) <;> first | rfl | omega | (simp_all; done) | (simp_all; omega)); done) | grind (splits := 40) [jlt, jix, jdv, jrd, v_X13_section]))
set_option maxHeartbeats 20000 in
theorem e_X13_relocationAt (s : jS) (x0 x1 x2 : Int) (h0 : (¬ (x1 < 0) ∧ (¬ ((W32 ((jf s 18 (x0 + 614) 6) - 1)) < x1))) → (0 ≤ x1 ∧ x1 < 300)) : m_X13_relocationAt s x0 x1 x2 = some (if ¬ (x1 < 0) ∧ (¬ ((W32 ((jf s 18 (x0 + 614) 6) - 1)) < x1)) then (v_X18_tell s (((x0 + 614) + 4) + 309 + 1 * x1) x2) else (-1)) := by
  rw [em_X13_relocationAt]; unfold dm_X13_relocationAt
  repeat' (first | refine jite (fun _ => ?_) (fun _ => ?_) | rw [jz] | rw [Option.bind_some] | rw [e_X13_in] | rw [e_X18_tell])
  all_goals first | rfl | ((try simp (disch := grind) only [e_X13_in, e_X18_tell, Option.bind_some, jlet, Wz_0, Wz_1, Wz_if, L_cmp_0, L_cmp_lt, L_cmp_gt]); all_goals (first | rfl | (simp only [apply_ite some]; done) | ((try simp only [jlt, jix, jdv, jrd, Option.bind_some]); ((repeat' split) <;> first | rfl | omega | (simp_all; done) | (simp_all; omega)); done) | grind (splits := 40) [jlt, jix, jdv, jrd]))
set_option maxHeartbeats 20000 in
theorem e_X18_isWithin (s : jS) (x0 x1 : Int) : m_X18_isWithin s x0 x1 = some (if ¬ ((jf s 22 x0 1) < 0) ∧ (¬ (x1 < (W64 ((jf s 22 x0 1) + (v_X51_width (jf s 22 x0 2) (jf s 22 x0 4)))))) then 1 else 0) := by
  rw [em_X18_isWithin]; unfold dm_X18_isWithin
  all_goals first | rfl | ((try simp (disch := grind) only [e_X51_width, Option.bind_some, jlet, Wz_0, Wz_1, Wz_if, L_cmp_0, L_cmp_lt, L_cmp_gt]); all_goals (first | rfl | ((by_cases hP : (¬ ((jf s 22 x0 1) < 0) ∧ (¬ (x1 < (W64 ((jf s 22 x0 1) + (v_X51_width (jf s 22 x0 2) (jf s 22 x0 4)))))))) <;> (first | rw [if_pos hP] | rw [if_neg hP]) <;> (try simp only [jlt, jix, jdv, jrd, Option.bind_some]) <;> (repeat' split) <;> first | rfl | (exfalso; omega) | (simp_all; done) | (simp_all; omega)) | grind (splits := 40) [jlt, jix, jdv, jrd]))
set_option maxHeartbeats 20000 in
theorem e_X19_u4 (s : jS) (x0 x1 : Int) (h0 : (0 ≤ x1 ∧ x1 < (jN s (x0 + 1)))) (h1 : (0 ≤ (W32 (x1 + 1)) ∧ (W32 (x1 + 1)) < (jN s (x0 + 1)))) (h2 : (0 ≤ (W32 (x1 + 2)) ∧ (W32 (x1 + 2)) < (jN s (x0 + 1)))) (h3 : (0 ≤ (W32 ((W32 (x1 + 2)) + 1)) ∧ (W32 ((W32 (x1 + 2)) + 1)) < (jN s (x0 + 1)))) : m_X19_u4 s x0 x1 = some ((L_and (v_X19_s4 s x0 x1) 4294967295)) := by
  rw [em_X19_u4]; unfold dm_X19_u4
  repeat' (first | refine jite (fun _ => ?_) (fun _ => ?_) | rw [jz] | rw [Option.bind_some])
  all_goals first | rfl | ((try simp (disch := grind) only [e_X19_s4, Option.bind_some, jlet, Wz_0, Wz_1, Wz_if, L_cmp_0, L_cmp_lt, L_cmp_gt]); all_goals (first | rfl | (simp only [apply_ite some]; done) | ((try simp only [jlt, jix, jdv, jrd, Option.bind_some]); ((repeat' split) <;> first | rfl | omega | (simp_all; done) | (simp_all; omega)); done) | grind (splits := 40) [jlt, jix, jdv, jrd]))
set_option maxHeartbeats 20000 in
theorem e_X22_byteAt (s : jS) (x0 x1 : Int) (h0 : (¬ (x1 < 0) ∧ (¬ ((W32 ((jf s 29 (x0 + 19) 1) - 1)) < x1))) → (0 ≤ x1 ∧ x1 < 16384)) : m_X22_byteAt s x0 x1 = some (if ¬ (x1 < 0) ∧ (¬ ((W32 ((jf s 29 (x0 + 19) 1) - 1)) < x1)) then (I_and (jf s 1001 ((x0 + 19) + 1) x1) 255) else (-1)) := by
  rw [em_X22_byteAt]; unfold dm_X22_byteAt
  repeat' (first | refine jite (fun _ => ?_) (fun _ => ?_) | rw [jz] | rw [Option.bind_some] | rw [e_X22_in])
  all_goals first | rfl | ((try simp (disch := grind) only [e_X22_in, e_X25_u1, Option.bind_some, jlet, Wz_0, Wz_1, Wz_if, L_cmp_0, L_cmp_lt, L_cmp_gt]); all_goals (first | rfl | (simp only [apply_ite some]; done) | ((try simp only [jlt, jix, jdv, jrd, Option.bind_some]); ((repeat' split) <;> first | rfl | omega | (simp_all; done) | (simp_all; omega)); done) | grind (splits := 40) [jlt, jix, jdv, jrd]))
set_option maxHeartbeats 20000 in
theorem e_X22_about (s : jS) (x0 x1 x2 : Int) : m_X22_about s x0 x1 x2 = some (if ¬ (x1 < 0) ∧ (x1 < 3) then (v_X24_tell s (((x0 + 10) + 1) + 2 + 2 * x1) x2) else (-1)) := by
  rw [em_X22_about]; unfold dm_X22_about
  repeat' (first | refine jite (fun _ => ?_) (fun _ => ?_) | rw [jz] | rw [Option.bind_some] | rw [e_X22_isSegment] | rw [e_X24_tell])
  all_goals first | rfl | ((try simp (disch := grind) only [e_X22_isSegment, e_X24_tell, Option.bind_some, jlet, Wz_0, Wz_1, Wz_if, L_cmp_0, L_cmp_lt, L_cmp_gt]); all_goals (first | rfl | (simp only [apply_ite some]; done) | ((try simp only [jlt, jix, jdv, jrd, Option.bind_some]); ((repeat' split) <;> first | rfl | omega | (simp_all; done) | (simp_all; omega)); done) | grind (splits := 40) [jlt, jix, jdv, jrd]))
set_option maxHeartbeats 20000 in
theorem e_X23_hasText (s : jS) (x0 : Int) (h0 : (0 ≤ ((x0 + 1) + 2 + 2 * 0) ∧ jK s ((x0 + 1) + 2 + 2 * 0) = 28)) (h1 : ¬ ((jf s 28 ((x0 + 1) + 2 + 2 * 0) 2) = 0) → (0 ≤ ((x0 + 1) + 2 + 2 * 0) ∧ jK s ((x0 + 1) + 2 + 2 * 0) = 28)) (h2 : ¬ ((jf s 28 ((x0 + 1) + 2 + 2 * 0) 2) = 0) → 0 < (jf s 28 ((x0 + 1) + 2 + 2 * 0) 4) → (0 ≤ ((x0 + 1) + 2 + 2 * 0) ∧ jK s ((x0 + 1) + 2 + 2 * 0) = 28)) : m_X23_hasText s x0 = some (if ¬ ((jf s 28 ((x0 + 1) + 2 + 2 * 0) 2) = 0) ∧ ((0 < (jf s 28 ((x0 + 1) + 2 + 2 * 0) 4)) ∧ ((I_rem (jf s 28 ((x0 + 1) + 2 + 2 * 0) 4) 2) = 0)) then 1 else 0) := by
  rw [em_X23_hasText]; unfold dm_X23_hasText
  all_goals first | rfl | ((try simp (disch := grind) only [e_X23_text, Option.bind_some, jlet, Wz_0, Wz_1, Wz_if, L_cmp_0, L_cmp_lt, L_cmp_gt]); all_goals (first | rfl | ((by_cases hP : (¬ ((jf s 28 ((x0 + 1) + 2 + 2 * 0) 2) = 0) ∧ ((0 < (jf s 28 ((x0 + 1) + 2 + 2 * 0) 4)) ∧ ((I_rem (jf s 28 ((x0 + 1) + 2 + 2 * 0) 4) 2) = 0)))) <;> (first | rw [if_pos hP] | rw [if_neg hP]) <;> (try simp only [jlt, jix, jdv, jrd, Option.bind_some]) <;> (repeat' split) <;> first | rfl | (exfalso; omega) | (simp_all; done) | (simp_all; omega)) | grind (splits := 40) [jlt, jix, jdv, jrd]))
set_option maxHeartbeats 20000 in
theorem e_X25_u4 (s : jS) (x0 x1 : Int) (h0 : (0 ≤ x1 ∧ x1 < 16384)) (h1 : (0 ≤ (W32 (x1 + 1)) ∧ (W32 (x1 + 1)) < 16384)) (h2 : (0 ≤ (W32 (x1 + 2)) ∧ (W32 (x1 + 2)) < 16384)) (h3 : (0 ≤ (W32 ((W32 (x1 + 2)) + 1)) ∧ (W32 ((W32 (x1 + 2)) + 1)) < 16384)) : m_X25_u4 s x0 x1 = some ((L_and (v_X25_s4 s x0 x1) 4294967295)) := by
  rw [em_X25_u4]; unfold dm_X25_u4
  repeat' (first | refine jite (fun _ => ?_) (fun _ => ?_) | rw [jz] | rw [Option.bind_some])
  all_goals first | rfl | ((try simp (disch := grind) only [e_X25_s4, Option.bind_some, jlet, Wz_0, Wz_1, Wz_if, L_cmp_0, L_cmp_lt, L_cmp_gt]); all_goals (first | rfl | (simp only [apply_ite some]; done) | ((try simp only [jlt, jix, jdv, jrd, Option.bind_some]); ((repeat' split) <;> first | rfl | omega | (simp_all; done) | (simp_all; omega)); done) | grind (splits := 40) [jlt, jix, jdv, jrd]))
def v_X29_six (x0 : Int) : Int := (I_shr (I_shl (I_or (I_shl (I_and (I_ushr x0 12) (W32 ((I_shl 1 (W32 ((W32 (12 - 12)) + 1))) - 1))) 5) (I_and (I_ushr x0 2) (W32 ((I_shl 1 (W32 ((W32 (6 - 2)) + 1))) - 1)))) (W32 (32 - 6))) (W32 (32 - 6)))
set_option maxHeartbeats 20000 in
theorem e_X29_six (s : jS) (x0 : Int) : m_X29_six s x0 = some (v_X29_six x0) := by
  rw [em_X29_six]; unfold dm_X29_six
  unfold v_X29_six
  repeat' (first | refine jite (fun _ => ?_) (fun _ => ?_) | rw [jz] | rw [Option.bind_some] | rw [e_X29_bits] | rw [e_X29_signed])
  all_goals first | rfl | ((try simp (disch := grind) only [e_X29_bits, e_X29_signed, Option.bind_some, jlet, Wz_0, Wz_1, Wz_if, L_cmp_0, L_cmp_lt, L_cmp_gt]); all_goals (first | rfl | (simp only [v_X29_six, apply_ite some]; done) | ((try simp only [jlt, jix, jdv, jrd, Option.bind_some]); ((repeat' split) <;> first | rfl | omega | (simp_all; done) | (simp_all; omega)); done) | grind (splits := 40) [jlt, jix, jdv, jrd, v_X29_six]))
abbrev p_X29_holds (x0 x1 x2 : Int) : Prop := (x0 = 4) ∧ (x1 = x2) ∨ ¬ (x0 = 4) ∧ ((x0 = 5) ∧ (¬ (x1 = x2)) ∨ ¬ (x0 = 5) ∧ ((x0 = 6) ∧ (x1 < x2) ∨ ¬ (x0 = 6) ∧ ((x0 = 7) ∧ (¬ (x1 < x2)) ∨ ¬ (x0 = 7) ∧ ((x0 = 8) ∧ ((L_and x1 4294967295) < (L_and x2 4294967295)) ∨ ¬ (x0 = 8) ∧ (¬ ((L_and x1 4294967295) < (L_and x2 4294967295)))))))
set_option maxHeartbeats 20000 in
theorem e_X29_holds (s : jS) (x0 x1 x2 : Int) : m_X29_holds s x0 x1 x2 = some (if p_X29_holds x0 x1 x2 then 1 else 0) := by
  rw [em_X29_holds]; unfold dm_X29_holds
  all_goals first | rfl | ((try simp (disch := grind) only [e_X29_plain, Option.bind_some, jlet, Wz_0, Wz_1, Wz_if, L_cmp_0, L_cmp_lt, L_cmp_gt]); all_goals (first | rfl | ((by_cases hP : (p_X29_holds x0 x1 x2)) <;> (first | rw [if_pos hP] | rw [if_neg hP]) <;> (try unfold p_X29_holds at hP) <;> (try simp only [jlt, jix, jdv, jrd, Option.bind_some]) <;> (repeat' split) <;> first | rfl | (exfalso; omega) | (simp_all; done) | (simp_all; omega)) | grind (splits := 40) [jlt, jix, jdv, jrd]))
def v_X29_reckoned (x0 x1 x2 : Int) : Int := if x0 = 27 then (W32 (x1 + x2)) else if x0 = 28 then (W32 (x1 - x2)) else if x0 = 29 then (if 0 = 0 then (I_shl x1 (I_and x2 31)) else if 0 = 1 then (I_ushr x1 (I_and x2 31)) else (I_shr x1 (I_and x2 31))) else if x0 = 30 then if x1 < x2 then 1 else 0 else if x0 = 31 then if (L_and x1 4294967295) < (L_and x2 4294967295) then 1 else 0 else if x0 = 32 then (I_xor x1 x2) else if x0 = 33 then (if 1 = 0 then (I_shl x1 (I_and x2 31)) else if 1 = 1 then (I_ushr x1 (I_and x2 31)) else (I_shr x1 (I_and x2 31))) else if x0 = 34 then (if 2 = 0 then (I_shl x1 (I_and x2 31)) else if 2 = 1 then (I_ushr x1 (I_and x2 31)) else (I_shr x1 (I_and x2 31))) else if x0 = 35 then (I_or x1 x2) else if x0 = 36 then (I_and x1 x2) else if x0 < 41 then (v_X29_product x0 x1 x2) else (v_X29_quotient x0 x1 x2)
set_option maxHeartbeats 20000 in
theorem e_X29_reckoned (s : jS) (x0 x1 x2 : Int) (h0 : ¬ (x0 = 27) → ¬ (x0 = 28) → ¬ (x0 = 29) → ¬ (x0 = 30) → ¬ (x0 = 31) → ¬ (x0 = 32) → ¬ (x0 = 33) → ¬ (x0 = 34) → ¬ (x0 = 35) → ¬ (x0 = 36) → ¬ (x0 < 41) → ¬ (x0 = 41) → x0 = 42 → ¬ (x2 = 0) → (¬ (L_and x2 4294967295) = 0)) (h1 : ¬ (x0 = 27) → ¬ (x0 = 28) → ¬ (x0 = 29) → ¬ (x0 = 30) → ¬ (x0 = 31) → ¬ (x0 = 32) → ¬ (x0 = 33) → ¬ (x0 = 34) → ¬ (x0 = 35) → ¬ (x0 = 36) → ¬ (x0 < 41) → ¬ (x0 = 41) → ¬ (x0 = 42) → ¬ (x0 = 43) → ¬ (x2 = 0) → (¬ (L_and x2 4294967295) = 0)) : m_X29_reckoned s x0 x1 x2 = some (v_X29_reckoned x0 x1 x2) := by
  rw [em_X29_reckoned]; unfold dm_X29_reckoned
  unfold v_X29_reckoned
  repeat' (first | refine jite (fun _ => ?_) (fun _ => ?_) | rw [jz] | rw [Option.bind_some] | rw [e_X29_moved] | rw [e_X29_plain] | rw [e_X29_product])
  all_goals first | rfl | ((try simp (disch := grind) only [e_X29_moved, e_X29_plain, e_X29_product, e_X29_quotient, Option.bind_some, jlet, Wz_0, Wz_1, Wz_if, L_cmp_0, L_cmp_lt, L_cmp_gt]); all_goals (first | rfl | (simp only [v_X29_reckoned, apply_ite some]; done) | ((try simp only [jlt, jix, jdv, jrd, Option.bind_some]); ((repeat' split) <;> first | rfl | omega | (simp_all; done) | (simp_all; omega)); done) | grind (splits := 40) [jlt, jix, jdv, jrd, v_X29_reckoned]))
set_option maxHeartbeats 20000 in
theorem e_X35_powerOf (s : jS) (x0 : Int) : m_X35_powerOf s x0 = some ((W32 (31 - (v_J16_numberOfLeadingZeros x0)))) := by
  rw [em_X35_powerOf]; unfold dm_X35_powerOf
  repeat' (first | refine jite (fun _ => ?_) (fun _ => ?_) | rw [jz] | rw [Option.bind_some] | rw [e_J16_numberOfLeadingZeros])
  all_goals first | rfl | ((try simp (disch := grind) only [e_J16_numberOfLeadingZeros, Option.bind_some, jlet, Wz_0, Wz_1, Wz_if, L_cmp_0, L_cmp_lt, L_cmp_gt]); all_goals (first | rfl | (simp only [apply_ite some]; done) | ((try simp only [jlt, jix, jdv, jrd, Option.bind_some]); ((repeat' split) <;> first | rfl | omega | (simp_all; done) | (simp_all; omega)); done) | grind (splits := 40) [jlt, jix, jdv, jrd]))
set_option maxHeartbeats 20000 in
theorem e_X36_can (s : jS) (x0 x1 : Int) : m_X36_can s x0 x1 = some (if ((jf s 40 x0 16) < 256) ∧ (¬ (x1 < 0) ∧ (¬ ((W32 ((jf s 40 x0 15) - 1)) < x1))) then 1 else 0) := by
  rw [em_X36_can]; unfold dm_X36_can
  all_goals first | rfl | ((try simp (disch := grind) only [e_X36_isPart, Option.bind_some, jlet, Wz_0, Wz_1, Wz_if, L_cmp_0, L_cmp_lt, L_cmp_gt]); all_goals (first | rfl | ((by_cases hP : (((jf s 40 x0 16) < 256) ∧ (¬ (x1 < 0) ∧ (¬ ((W32 ((jf s 40 x0 15) - 1)) < x1))))) <;> (first | rw [if_pos hP] | rw [if_neg hP]) <;> (try simp only [jlt, jix, jdv, jrd, Option.bind_some]) <;> (repeat' split) <;> first | rfl | (exfalso; omega) | (simp_all; done) | (simp_all; omega)) | grind (splits := 40) [jlt, jix, jdv, jrd]))
set_option maxHeartbeats 20000 in
theorem e_X51_is (s : jS) (x0 x1 : Int) : m_X51_is s x0 x1 = some (if ¬ ((v_X51_width x0 0) < 0) ∧ ((x1 = 0) ∨ ((x0 = 1) ∨ (¬ (x0 < 33) ∧ (¬ (39 < x0))))) then 1 else 0) := by
  rw [em_X51_is]; unfold dm_X51_is
  all_goals first | rfl | ((try simp (disch := grind) only [e_X13_in, e_X51_width, Option.bind_some, jlet, Wz_0, Wz_1, Wz_if, L_cmp_0, L_cmp_lt, L_cmp_gt]); all_goals (first | rfl | ((by_cases hP : (¬ ((v_X51_width x0 0) < 0) ∧ ((x1 = 0) ∨ ((x0 = 1) ∨ (¬ (x0 < 33) ∧ (¬ (39 < x0))))))) <;> (first | rw [if_pos hP] | rw [if_neg hP]) <;> (try simp only [jlt, jix, jdv, jrd, Option.bind_some]) <;> (repeat' split) <;> first | rfl | (exfalso; omega) | (simp_all; done) | (simp_all; omega)) | grind (splits := 40) [jlt, jix, jdv, jrd]))
set_option maxHeartbeats 20000 in
theorem e_X55_size (s : jS) (x0 : Int) : m_X55_size s x0 = some ((jmi (W32 ((I_shl (I_shr (W32 ((W32 ((jf s 73 x0 1) + (I_shl 1 (jf s 73 x0 3)))) - 1)) (jf s 73 x0 3)) (jf s 73 x0 3)) - (jf s 73 x0 1))) (jf s 73 x0 4))) := by
  rw [em_X55_size]; unfold dm_X55_size
  repeat' (first | refine jite (fun _ => ?_) (fun _ => ?_) | rw [jz] | rw [Option.bind_some] | rw [e_X55_lack])
  all_goals first | rfl | ((try simp (disch := grind) only [e_X55_lack, Option.bind_some, jlet, Wz_0, Wz_1, Wz_if, L_cmp_0, L_cmp_lt, L_cmp_gt]); all_goals (first | rfl | (simp only [apply_ite some]; done) | ((try simp only [jlt, jix, jdv, jrd, Option.bind_some]); ((repeat' split) <;> first | rfl | omega | (simp_all; done) | (simp_all; omega)); done) | grind (splits := 40) [jlt, jix, jdv, jrd]))
def v_X55_behind (s : jS) (x0 x1 : Int) : Int := if x1 = 0 then 0 else (jmi (W32 ((I_shl (I_shr (W32 ((W32 ((jf s 73 x0 1) + (I_shl 1 (jf s 73 x0 3)))) - 1)) (jf s 73 x0 3)) (jf s 73 x0 3)) - (jf s 73 x0 1))) (jf s 73 x0 4))
set_option maxHeartbeats 20000 in
theorem e_X55_behind (s : jS) (x0 x1 : Int) : m_X55_behind s x0 x1 = some (v_X55_behind s x0 x1) := by
  rw [em_X55_behind]; unfold dm_X55_behind
  unfold v_X55_behind
  repeat' (first | refine jite (fun _ => ?_) (fun _ => ?_) | rw [jz] | rw [Option.bind_some] | rw [e_X55_size])
  all_goals first | rfl | ((try simp (disch := grind) only [e_X55_size, Option.bind_some, jlet, Wz_0, Wz_1, Wz_if, L_cmp_0, L_cmp_lt, L_cmp_gt]); all_goals (first | rfl | (simp only [v_X55_behind, apply_ite some]; done) | ((try simp only [jlt, jix, jdv, jrd, Option.bind_some]); ((repeat' split) <;> first | rfl | omega | (simp_all; done) | (simp_all; omega)); done) | grind (splits := 40) [jlt, jix, jdv, jrd, v_X55_behind]))
set_option maxHeartbeats 20000 in
theorem e_X37_thrown (s : jS) (x0 : Int) : m_X37_thrown s x0 = some ((jf s 41 x0 4)) := by
  rw [em_X37_thrown]; unfold dm_X37_thrown
  repeat' (first | refine jite (fun _ => ?_) (fun _ => ?_) | rw [jz] | rw [Option.bind_some])
  all_goals first | rfl | ((try simp (disch := grind) only [Option.bind_some, jlet, Wz_0, Wz_1, Wz_if, L_cmp_0, L_cmp_lt, L_cmp_gt]); all_goals (first | rfl | (simp only [apply_ite some]; done) | ((try simp only [jlt, jix, jdv, jrd, Option.bind_some]); ((repeat' split) <;> first | rfl | omega | (simp_all; done) | (simp_all; omega)); done) | grind (splits := 40) [jlt, jix, jdv, jrd]))
set_option maxHeartbeats 20000 in
theorem e_X37_isUnit (s : jS) (x0 : Int) : m_X37_isUnit s x0 = some (if ¬ (x0 < 0) ∧ (x0 < 6) then 1 else 0) := by
  rw [em_X37_isUnit]; unfold dm_X37_isUnit
  all_goals first | rfl | ((try simp (disch := grind) only [Option.bind_some, jlet, Wz_0, Wz_1, Wz_if, L_cmp_0, L_cmp_lt, L_cmp_gt]); all_goals (first | rfl | ((by_cases hP : (¬ (x0 < 0) ∧ (x0 < 6))) <;> (first | rw [if_pos hP] | rw [if_neg hP]) <;> (try simp only [jlt, jix, jdv, jrd, Option.bind_some]) <;> (repeat' split) <;> first | rfl | (exfalso; omega) | (simp_all; done) | (simp_all; omega)) | grind (splits := 40) [jlt, jix, jdv, jrd]))
set_option maxHeartbeats 20000 in
theorem e_X37_isInstruction (s : jS) (x0 x1 : Int) : m_X37_isInstruction s x0 x1 = some (if (x1 < 100) ∨ (¬ (x1 < 200)) then 1 else 0) := by
  rw [em_X37_isInstruction]; unfold dm_X37_isInstruction
  all_goals first | rfl | ((try simp (disch := grind) only [Option.bind_some, jlet, Wz_0, Wz_1, Wz_if, L_cmp_0, L_cmp_lt, L_cmp_gt]); all_goals (first | rfl | ((by_cases hP : ((x1 < 100) ∨ (¬ (x1 < 200)))) <;> (first | rw [if_pos hP] | rw [if_neg hP]) <;> (try simp only [jlt, jix, jdv, jrd, Option.bind_some]) <;> (repeat' split) <;> first | rfl | (exfalso; omega) | (simp_all; done) | (simp_all; omega)) | grind (splits := 40) [jlt, jix, jdv, jrd]))
set_option maxHeartbeats 20000 in
theorem e_X37_isNumber (s : jS) (x0 x1 : Int) (h0 : (0 ≤ x1 ∧ x1 < 64)) (h1 : (jf s 1000 (x0 + 164) x1) = (-1) → (0 ≤ x1 ∧ x1 < 64)) : m_X37_isNumber s x0 x1 = some (if ((jf s 1000 (x0 + 164) x1) = (-1)) ∧ ((jf s 1000 (x0 + 165) x1) = (-1)) then 1 else 0) := by
  rw [em_X37_isNumber]; unfold dm_X37_isNumber
  all_goals first | rfl | ((try simp (disch := grind) only [Option.bind_some, jlet, Wz_0, Wz_1, Wz_if, L_cmp_0, L_cmp_lt, L_cmp_gt]); all_goals (first | rfl | ((by_cases hP : (((jf s 1000 (x0 + 164) x1) = (-1)) ∧ ((jf s 1000 (x0 + 165) x1) = (-1)))) <;> (first | rw [if_pos hP] | rw [if_neg hP]) <;> (try simp only [jlt, jix, jdv, jrd, Option.bind_some]) <;> (repeat' split) <;> first | rfl | (exfalso; omega) | (simp_all; done) | (simp_all; omega)) | grind (splits := 40) [jlt, jix, jdv, jrd]))
set_option maxHeartbeats 20000 in
theorem e_X37_isPlain (s : jS) (x0 : Int) : m_X37_isPlain s x0 = some (if ((jf s 41 x0 53) = (-1)) ∧ ((jf s 41 x0 54) = (-1)) then 1 else 0) := by
  rw [em_X37_isPlain]; unfold dm_X37_isPlain
  all_goals first | rfl | ((try simp (disch := grind) only [Option.bind_some, jlet, Wz_0, Wz_1, Wz_if, L_cmp_0, L_cmp_lt, L_cmp_gt]); all_goals (first | rfl | ((by_cases hP : (((jf s 41 x0 53) = (-1)) ∧ ((jf s 41 x0 54) = (-1)))) <;> (first | rw [if_pos hP] | rw [if_neg hP]) <;> (try simp only [jlt, jix, jdv, jrd, Option.bind_some]) <;> (repeat' split) <;> first | rfl | (exfalso; omega) | (simp_all; done) | (simp_all; omega)) | grind (splits := 40) [jlt, jix, jdv, jrd]))
set_option maxHeartbeats 20000 in
theorem e_X37_isPlaced (s : jS) (x0 : Int) : m_X37_isPlaced s x0 = some (if ¬ ((jf s 41 x0 53) = (-1)) ∧ ((jf s 41 x0 54) = (-1)) then 1 else 0) := by
  rw [em_X37_isPlaced]; unfold dm_X37_isPlaced
  all_goals first | rfl | ((try simp (disch := grind) only [Option.bind_some, jlet, Wz_0, Wz_1, Wz_if, L_cmp_0, L_cmp_lt, L_cmp_gt]); all_goals (first | rfl | ((by_cases hP : (¬ ((jf s 41 x0 53) = (-1)) ∧ ((jf s 41 x0 54) = (-1)))) <;> (first | rw [if_pos hP] | rw [if_neg hP]) <;> (try simp only [jlt, jix, jdv, jrd, Option.bind_some]) <;> (repeat' split) <;> first | rfl | (exfalso; omega) | (simp_all; done) | (simp_all; omega)) | grind (splits := 40) [jlt, jix, jdv, jrd]))
def v_X37_marksOf (x0 : Int) : Int := if x0 = 0 then 2 else if x0 = 1 then 8 else if x0 = 3 then if 1 = 0 then 0 else 20 else if x0 < 10 then if 0 = 0 then 0 else 20 else if 23 < x0 then if 0 = 0 then 0 else 20 else if 1 = 0 then 0 else 20
set_option maxHeartbeats 20000 in
theorem e_X37_marksOf (s : jS) (x0 : Int) : m_X37_marksOf s x0 = some (v_X37_marksOf x0) := by
  rw [em_X37_marksOf]; unfold dm_X37_marksOf
  unfold v_X37_marksOf
  repeat' (first | refine jite (fun _ => ?_) (fun _ => ?_) | rw [jz] | rw [Option.bind_some] | (rw [eu_X37_marksOf_31]; unfold du_X37_marksOf_31) | (rw [eu_X37_marksOf_35]; unfold du_X37_marksOf_35) | (rw [eu_X37_marksOf_36]; unfold du_X37_marksOf_36))
  all_goals first | rfl | ((try simp (disch := grind) only [eu_X37_marksOf_31, du_X37_marksOf_31, eu_X37_marksOf_35, du_X37_marksOf_35, eu_X37_marksOf_36, du_X37_marksOf_36, Option.bind_some, jlet, Wz_0, Wz_1, Wz_if, L_cmp_0, L_cmp_lt, L_cmp_gt]); all_goals (first | rfl | (simp only [v_X37_marksOf, apply_ite some]; done) | ((try simp only [jlt, jix, jdv, jrd, Option.bind_some]); ((repeat' split) <;> first | rfl | omega | (simp_all; done) | (simp_all; omega)); done) | grind (splits := 40) [jlt, jix, jdv, jrd, v_X37_marksOf]))
set_option maxHeartbeats 20000 in
theorem e_X37_highOf (s : jS) (x0 : Int) : m_X37_highOf s x0 = some ((I_and (I_shr (W32 (x0 + 2048)) 12) 1048575)) := by
  rw [em_X37_highOf]; unfold dm_X37_highOf
  repeat' (first | refine jite (fun _ => ?_) (fun _ => ?_) | rw [jz] | rw [Option.bind_some])
  all_goals first | rfl | ((try simp (disch := grind) only [Option.bind_some, jlet, Wz_0, Wz_1, Wz_if, L_cmp_0, L_cmp_lt, L_cmp_gt]); all_goals (first | rfl | (simp only [apply_ite some]; done) | ((try simp only [jlt, jix, jdv, jrd, Option.bind_some]); ((repeat' split) <;> first | rfl | omega | (simp_all; done) | (simp_all; omega)); done) | grind (splits := 40) [jlt, jix, jdv, jrd]))
set_option maxHeartbeats 20000 in
theorem e_X37_lowOf (s : jS) (x0 : Int) : m_X37_lowOf s x0 = some ((I_shr (I_shl x0 20) 20)) := by
  rw [em_X37_lowOf]; unfold dm_X37_lowOf
  repeat' (first | refine jite (fun _ => ?_) (fun _ => ?_) | rw [jz] | rw [Option.bind_some])
  all_goals first | rfl | ((try simp (disch := grind) only [Option.bind_some, jlet, Wz_0, Wz_1, Wz_if, L_cmp_0, L_cmp_lt, L_cmp_gt]); all_goals (first | rfl | (simp only [apply_ite some]; done) | ((try simp only [jlt, jix, jdv, jrd, Option.bind_some]); ((repeat' split) <;> first | rfl | omega | (simp_all; done) | (simp_all; omega)); done) | grind (splits := 40) [jlt, jix, jdv, jrd]))
set_option maxHeartbeats 20000 in
theorem e_X37_isIn (s : jS) (x0 x1 : Int) : m_X37_isIn s x0 x1 = some (if (I_and (I_shr (jf s 41 x0 107) x1) 1) = 1 then 1 else 0) := by
  rw [em_X37_isIn]; unfold dm_X37_isIn
  all_goals first | rfl | ((try simp (disch := grind) only [Option.bind_some, jlet, Wz_0, Wz_1, Wz_if, L_cmp_0, L_cmp_lt, L_cmp_gt]); all_goals (first | rfl | ((by_cases hP : ((I_and (I_shr (jf s 41 x0 107) x1) 1) = 1)) <;> (first | rw [if_pos hP] | rw [if_neg hP]) <;> (try simp only [jlt, jix, jdv, jrd, Option.bind_some]) <;> (repeat' split) <;> first | rfl | (exfalso; omega) | (simp_all; done) | (simp_all; omega)) | grind (splits := 40) [jlt, jix, jdv, jrd]))
set_option maxHeartbeats 20000 in
theorem e_X37_isDefinition (s : jS) (x0 x1 : Int) (h0 : (0 ≤ x1 ∧ x1 < 600)) (h1 : ¬ ((jf s 1000 (x0 + 177) x1) < 0) → (0 ≤ x1 ∧ x1 < 600)) : m_X37_isDefinition s x0 x1 = some (if ¬ ((jf s 1000 (x0 + 177) x1) < 0) ∧ (¬ (4 < (jf s 1000 (x0 + 177) x1))) then 1 else 0) := by
  rw [em_X37_isDefinition]; unfold dm_X37_isDefinition
  all_goals first | rfl | ((try simp (disch := grind) only [Option.bind_some, jlet, Wz_0, Wz_1, Wz_if, L_cmp_0, L_cmp_lt, L_cmp_gt]); all_goals (first | rfl | ((by_cases hP : (¬ ((jf s 1000 (x0 + 177) x1) < 0) ∧ (¬ (4 < (jf s 1000 (x0 + 177) x1))))) <;> (first | rw [if_pos hP] | rw [if_neg hP]) <;> (try simp only [jlt, jix, jdv, jrd, Option.bind_some]) <;> (repeat' split) <;> first | rfl | (exfalso; omega) | (simp_all; done) | (simp_all; omega)) | grind (splits := 40) [jlt, jix, jdv, jrd]))
set_option maxHeartbeats 20000 in
theorem e_X37_widthOf (s : jS) (x0 x1 : Int) (h0 : (0 ≤ x1 ∧ x1 < 1800)) (h1 : (jf s 1000 (x0 + 186) x1) = 43 → (0 ≤ x1 ∧ x1 < 1800)) (h2 : ¬ ((jf s 1000 (x0 + 186) x1) = 43) → (0 ≤ x1 ∧ x1 < 1800)) : m_X37_widthOf s x0 x1 = some (if (jf s 1000 (x0 + 186) x1) = 43 then (jf s 1000 (x0 + 188) x1) else if (jf s 1000 (x0 + 186) x1) = 19 then 8 else 4) := by
  rw [em_X37_widthOf]; unfold dm_X37_widthOf
  repeat' (first | refine jite (fun _ => ?_) (fun _ => ?_) | rw [jz] | rw [Option.bind_some])
  all_goals first | rfl | ((try simp (disch := grind) only [Option.bind_some, jlet, Wz_0, Wz_1, Wz_if, L_cmp_0, L_cmp_lt, L_cmp_gt]); all_goals (first | rfl | (simp only [apply_ite some]; done) | ((try simp only [jlt, jix, jdv, jrd, Option.bind_some]); ((repeat' split) <;> first | rfl | omega | (simp_all; done) | (simp_all; omega)); done) | grind (splits := 40) [jlt, jix, jdv, jrd]))
def v_X37_unitWord (s : jS) (x0 x1 x2 : Int) : Int := if (jf s 1000 (x0 + 171) (W32 (4 * x1))) < (W32 (x2 + 4)) then (I_or (jf s 1000 (x0 + 170) (W32 ((W32 (6144 * x1)) + x2))) (I_shl (jf s 1000 (x0 + 170) (W32 ((W32 ((W32 (6144 * x1)) + x2)) + 1))) 8)) else (I_or (I_or (I_or (jf s 1000 (x0 + 170) (W32 ((W32 (6144 * x1)) + x2))) (I_shl (jf s 1000 (x0 + 170) (W32 ((W32 ((W32 (6144 * x1)) + x2)) + 1))) 8)) (I_shl (jf s 1000 (x0 + 170) (W32 ((W32 ((W32 (6144 * x1)) + x2)) + 2))) 16)) (I_shl (jf s 1000 (x0 + 170) (W32 ((W32 ((W32 (6144 * x1)) + x2)) + 3))) 24))
set_option maxHeartbeats 20000 in
theorem e_X37_unitWord (s : jS) (x0 x1 x2 : Int) (h0 : (0 ≤ (W32 ((W32 (6144 * x1)) + x2)) ∧ (W32 ((W32 (6144 * x1)) + x2)) < 36864)) (h1 : (0 ≤ (W32 ((W32 ((W32 (6144 * x1)) + x2)) + 1)) ∧ (W32 ((W32 ((W32 (6144 * x1)) + x2)) + 1)) < 36864)) (h2 : (0 ≤ (W32 (4 * x1)) ∧ (W32 (4 * x1)) < 24)) (h3 : ¬ ((jf s 1000 (x0 + 171) (W32 (4 * x1))) < (W32 (x2 + 4))) → (0 ≤ (W32 ((W32 ((W32 (6144 * x1)) + x2)) + 2)) ∧ (W32 ((W32 ((W32 (6144 * x1)) + x2)) + 2)) < 36864)) (h4 : ¬ ((jf s 1000 (x0 + 171) (W32 (4 * x1))) < (W32 (x2 + 4))) → (0 ≤ (W32 ((W32 ((W32 (6144 * x1)) + x2)) + 3)) ∧ (W32 ((W32 ((W32 (6144 * x1)) + x2)) + 3)) < 36864)) : m_X37_unitWord s x0 x1 x2 = some (v_X37_unitWord s x0 x1 x2) := by
  rw [em_X37_unitWord]; unfold dm_X37_unitWord
  unfold v_X37_unitWord
  repeat' (first | refine jite (fun _ => ?_) (fun _ => ?_) | rw [jz] | rw [Option.bind_some])
  all_goals first | rfl | ((try simp (disch := grind) only [Option.bind_some, jlet, Wz_0, Wz_1, Wz_if, L_cmp_0, L_cmp_lt, L_cmp_gt]); all_goals (first | rfl | (simp only [v_X37_unitWord, apply_ite some]; done) | ((try simp only [jlt, jix, jdv, jrd, Option.bind_some]); ((repeat' split) <;> first | rfl | omega | (simp_all; done) | (simp_all; omega)); done) | grind (splits := 40) [jlt, jix, jdv, jrd, v_X37_unitWord]))
set_option maxHeartbeats 20000 in
theorem e_X37_byteSpot (s : jS) (x0 x1 x2 : Int) (h0 : (0 ≤ x1 ∧ x1 < 4)) : m_X37_byteSpot s x0 x1 x2 = some ((W32 ((W32 ((W32 (4096 * x1)) + x2)) - (jf s 1000 ((x0 + 93) + 2) x1)))) := by
  rw [em_X37_byteSpot]; unfold dm_X37_byteSpot
  repeat' (first | refine jite (fun _ => ?_) (fun _ => ?_) | rw [jz] | rw [Option.bind_some])
  all_goals first | rfl | ((try simp (disch := grind) only [Option.bind_some, jlet, Wz_0, Wz_1, Wz_if, L_cmp_0, L_cmp_lt, L_cmp_gt]); all_goals (first | rfl | (simp only [apply_ite some]; done) | ((try simp only [jlt, jix, jdv, jrd, Option.bind_some]); ((repeat' split) <;> first | rfl | omega | (simp_all; done) | (simp_all; omega)); done) | grind (splits := 40) [jlt, jix, jdv, jrd]))
set_option maxHeartbeats 20000 in
theorem e_X37_lengthAt (s : jS) (x0 x1 : Int) : m_X37_lengthAt s x0 x1 = some (if (I_and x1 3) = 3 then 4 else 2) := by
  rw [em_X37_lengthAt]; unfold dm_X37_lengthAt
  repeat' (first | refine jite (fun _ => ?_) (fun _ => ?_) | rw [jz] | rw [Option.bind_some])
  all_goals first | rfl | ((try simp (disch := grind) only [Option.bind_some, jlet, Wz_0, Wz_1, Wz_if, L_cmp_0, L_cmp_lt, L_cmp_gt]); all_goals (first | rfl | (simp only [apply_ite some]; done) | ((try simp only [jlt, jix, jdv, jrd, Option.bind_some]); ((repeat' split) <;> first | rfl | omega | (simp_all; done) | (simp_all; omega)); done) | grind (splits := 40) [jlt, jix, jdv, jrd]))
set_option maxHeartbeats 20000 in
theorem e_X37_isInt (s : jS) (x0 : Int) : m_X37_isInt s x0 = some (if ¬ (x0 < (-2147483648)) ∧ (¬ (2147483647 < x0)) then 1 else 0) := by
  rw [em_X37_isInt]; unfold dm_X37_isInt
  all_goals first | rfl | ((try simp (disch := grind) only [Option.bind_some, jlet, Wz_0, Wz_1, Wz_if, L_cmp_0, L_cmp_lt, L_cmp_gt]); all_goals (first | rfl | ((by_cases hP : (¬ (x0 < (-2147483648)) ∧ (¬ (2147483647 < x0)))) <;> (first | rw [if_pos hP] | rw [if_neg hP]) <;> (try simp only [jlt, jix, jdv, jrd, Option.bind_some]) <;> (repeat' split) <;> first | rfl | (exfalso; omega) | (simp_all; done) | (simp_all; omega)) | grind (splits := 40) [jlt, jix, jdv, jrd]))
set_option maxHeartbeats 20000 in
theorem e_X37_high (s : jS) (x0 : Int) : m_X37_high s x0 = some ((L2i (L_and (L_shr (W64 (x0 + 2048)) 12) 1048575))) := by
  rw [em_X37_high]; unfold dm_X37_high
  repeat' (first | refine jite (fun _ => ?_) (fun _ => ?_) | rw [jz] | rw [Option.bind_some])
  all_goals first | rfl | ((try simp (disch := grind) only [Option.bind_some, jlet, Wz_0, Wz_1, Wz_if, L_cmp_0, L_cmp_lt, L_cmp_gt]); all_goals (first | rfl | (simp only [apply_ite some]; done) | ((try simp only [jlt, jix, jdv, jrd, Option.bind_some]); ((repeat' split) <;> first | rfl | omega | (simp_all; done) | (simp_all; omega)); done) | grind (splits := 40) [jlt, jix, jdv, jrd]))
set_option maxHeartbeats 20000 in
theorem e_X37_low (s : jS) (x0 : Int) : m_X37_low s x0 = some ((I_shr (I_shl (L2i x0) 20) 20)) := by
  rw [em_X37_low]; unfold dm_X37_low
  repeat' (first | refine jite (fun _ => ?_) (fun _ => ?_) | rw [jz] | rw [Option.bind_some])
  all_goals first | rfl | ((try simp (disch := grind) only [Option.bind_some, jlet, Wz_0, Wz_1, Wz_if, L_cmp_0, L_cmp_lt, L_cmp_gt]); all_goals (first | rfl | (simp only [apply_ite some]; done) | ((try simp only [jlt, jix, jdv, jrd, Option.bind_some]); ((repeat' split) <;> first | rfl | omega | (simp_all; done) | (simp_all; omega)); done) | grind (splits := 40) [jlt, jix, jdv, jrd]))
set_option maxHeartbeats 20000 in
theorem e_X37_isNear (s : jS) (x0 : Int) : m_X37_isNear s x0 = some (if ¬ (x0 < (-2048)) ∧ (¬ (2047 < x0)) then 1 else 0) := by
  rw [em_X37_isNear]; unfold dm_X37_isNear
  all_goals first | rfl | ((try simp (disch := grind) only [Option.bind_some, jlet, Wz_0, Wz_1, Wz_if, L_cmp_0, L_cmp_lt, L_cmp_gt]); all_goals (first | rfl | ((by_cases hP : (¬ (x0 < (-2048)) ∧ (¬ (2047 < x0)))) <;> (first | rw [if_pos hP] | rw [if_neg hP]) <;> (try simp only [jlt, jix, jdv, jrd, Option.bind_some]) <;> (repeat' split) <;> first | rfl | (exfalso; omega) | (simp_all; done) | (simp_all; omega)) | grind (splits := 40) [jlt, jix, jdv, jrd]))
set_option maxHeartbeats 20000 in
theorem e_X37_outputSize (s : jS) (x0 x1 : Int) (h0 : (0 ≤ x1 ∧ x1 < 4)) : m_X37_outputSize s x0 x1 = some ((W32 ((jf s 1000 ((x0 + 93) + 3) x1) - (jf s 1000 ((x0 + 93) + 2) x1)))) := by
  rw [em_X37_outputSize]; unfold dm_X37_outputSize
  repeat' (first | refine jite (fun _ => ?_) (fun _ => ?_) | rw [jz] | rw [Option.bind_some])
  all_goals first | rfl | ((try simp (disch := grind) only [Option.bind_some, jlet, Wz_0, Wz_1, Wz_if, L_cmp_0, L_cmp_lt, L_cmp_gt]); all_goals (first | rfl | (simp only [apply_ite some]; done) | ((try simp only [jlt, jix, jdv, jrd, Option.bind_some]); ((repeat' split) <;> first | rfl | omega | (simp_all; done) | (simp_all; omega)); done) | grind (splits := 40) [jlt, jix, jdv, jrd]))
def v_X38_opcodeOf (x0 : Int) : Int := if x0 = 0 then 55 else if x0 = 1 then 23 else if x0 = 2 then 111 else if x0 = 3 then 103 else if x0 < 10 then 99 else if x0 < 15 then 3 else if x0 < 18 then 35 else if x0 < 27 then 19 else 51
set_option maxHeartbeats 20000 in
theorem e_X38_opcodeOf (s : jS) (x0 : Int) : m_X38_opcodeOf s x0 = some (v_X38_opcodeOf x0) := by
  rw [em_X38_opcodeOf]; unfold dm_X38_opcodeOf
  unfold v_X38_opcodeOf
  repeat' (first | refine jite (fun _ => ?_) (fun _ => ?_) | rw [jz] | rw [Option.bind_some])
  all_goals first | rfl | ((try simp (disch := grind) only [Option.bind_some, jlet, Wz_0, Wz_1, Wz_if, L_cmp_0, L_cmp_lt, L_cmp_gt]); all_goals (first | rfl | (simp only [v_X38_opcodeOf, apply_ite some]; done) | ((try simp only [jlt, jix, jdv, jrd, Option.bind_some]); ((repeat' split) <;> first | rfl | omega | (simp_all; done) | (simp_all; omega)); done) | grind (splits := 40) [jlt, jix, jdv, jrd, v_X38_opcodeOf]))
def v_X38_thirdOf (x0 : Int) : Int := if x0 = 5 then 1 else if x0 = 6 then 4 else if x0 = 7 then 5 else if x0 = 8 then 6 else if x0 = 9 then 7 else if x0 = 10 then 0 else if x0 = 11 then 1 else if x0 = 12 then 2 else if x0 = 13 then 4 else if x0 = 14 then 5 else if x0 = 15 then 0 else if x0 = 16 then 1 else if x0 = 17 then 2 else if x0 = 18 then 0 else if x0 = 19 then 2 else if x0 = 20 then 3 else if x0 = 21 then 4 else if x0 = 22 then 6 else if x0 = 23 then 7 else if x0 = 24 then 1 else if x0 = 25 then 5 else if x0 = 26 then 5 else if x0 = 27 then 0 else if x0 = 28 then 0 else if x0 = 29 then 1 else if x0 = 30 then 2 else if x0 = 31 then 3 else if x0 = 32 then 4 else if x0 = 33 then 5 else if x0 = 34 then 5 else if x0 = 35 then 6 else if x0 = 36 then 7 else if x0 = 37 then 0 else if x0 = 38 then 1 else if x0 = 39 then 2 else if x0 = 40 then 3 else if x0 = 41 then 4 else if x0 = 42 then 5 else if x0 = 43 then 6 else if x0 = 44 then 7 else 0
set_option maxHeartbeats 20000 in
theorem e_X38_thirdOf (s : jS) (x0 : Int) : m_X38_thirdOf s x0 = some (v_X38_thirdOf x0) := by
  rw [em_X38_thirdOf]; unfold dm_X38_thirdOf
  unfold v_X38_thirdOf
  repeat' (first | refine jite (fun _ => ?_) (fun _ => ?_) | rw [jz] | rw [Option.bind_some])
  all_goals first | rfl | ((try simp (disch := grind) only [Option.bind_some, jlet, Wz_0, Wz_1, Wz_if, L_cmp_0, L_cmp_lt, L_cmp_gt]); all_goals (first | rfl | (simp only [v_X38_thirdOf, apply_ite some]; done) | ((try simp only [jlt, jix, jdv, jrd, Option.bind_some]); ((repeat' split) <;> first | rfl | omega | (simp_all; done) | (simp_all; omega)); done) | grind (splits := 40) [jlt, jix, jdv, jrd, v_X38_thirdOf]))
set_option maxHeartbeats 20000 in
theorem e_X38_isBranch (s : jS) (x0 : Int) : m_X38_isBranch s x0 = some (if (3 < x0) ∧ (x0 < 10) then 1 else 0) := by
  rw [em_X38_isBranch]; unfold dm_X38_isBranch
  all_goals first | rfl | ((try simp (disch := grind) only [Option.bind_some, jlet, Wz_0, Wz_1, Wz_if, L_cmp_0, L_cmp_lt, L_cmp_gt]); all_goals (first | rfl | ((by_cases hP : ((3 < x0) ∧ (x0 < 10))) <;> (first | rw [if_pos hP] | rw [if_neg hP]) <;> (try simp only [jlt, jix, jdv, jrd, Option.bind_some]) <;> (repeat' split) <;> first | rfl | (exfalso; omega) | (simp_all; done) | (simp_all; omega)) | grind (splits := 40) [jlt, jix, jdv, jrd]))
set_option maxHeartbeats 20000 in
theorem e_X38_isStore (s : jS) (x0 : Int) : m_X38_isStore s x0 = some (if (14 < x0) ∧ (x0 < 18) then 1 else 0) := by
  rw [em_X38_isStore]; unfold dm_X38_isStore
  all_goals first | rfl | ((try simp (disch := grind) only [Option.bind_some, jlet, Wz_0, Wz_1, Wz_if, L_cmp_0, L_cmp_lt, L_cmp_gt]); all_goals (first | rfl | ((by_cases hP : ((14 < x0) ∧ (x0 < 18))) <;> (first | rw [if_pos hP] | rw [if_neg hP]) <;> (try simp only [jlt, jix, jdv, jrd, Option.bind_some]) <;> (repeat' split) <;> first | rfl | (exfalso; omega) | (simp_all; done) | (simp_all; omega)) | grind (splits := 40) [jlt, jix, jdv, jrd]))
set_option maxHeartbeats 20000 in
theorem e_X38_seventhOf (s : jS) (x0 : Int) : m_X38_seventhOf s x0 = some (if x0 = 26 then 32 else if x0 = 28 then 32 else if x0 = 34 then 32 else if 36 < x0 then 1 else 0) := by
  rw [em_X38_seventhOf]; unfold dm_X38_seventhOf
  repeat' (first | refine jite (fun _ => ?_) (fun _ => ?_) | rw [jz] | rw [Option.bind_some])
  all_goals first | rfl | ((try simp (disch := grind) only [Option.bind_some, jlet, Wz_0, Wz_1, Wz_if, L_cmp_0, L_cmp_lt, L_cmp_gt]); all_goals (first | rfl | (simp only [apply_ite some]; done) | ((try simp only [jlt, jix, jdv, jrd, Option.bind_some]); ((repeat' split) <;> first | rfl | omega | (simp_all; done) | (simp_all; omega)); done) | grind (splits := 40) [jlt, jix, jdv, jrd]))
set_option maxHeartbeats 20000 in
theorem e_X38_isShift (s : jS) (x0 : Int) : m_X38_isShift s x0 = some (if (23 < x0) ∧ (x0 < 27) then 1 else 0) := by
  rw [em_X38_isShift]; unfold dm_X38_isShift
  all_goals first | rfl | ((try simp (disch := grind) only [Option.bind_some, jlet, Wz_0, Wz_1, Wz_if, L_cmp_0, L_cmp_lt, L_cmp_gt]); all_goals (first | rfl | ((by_cases hP : ((23 < x0) ∧ (x0 < 27))) <;> (first | rw [if_pos hP] | rw [if_neg hP]) <;> (try simp only [jlt, jix, jdv, jrd, Option.bind_some]) <;> (repeat' split) <;> first | rfl | (exfalso; omega) | (simp_all; done) | (simp_all; omega)) | grind (splits := 40) [jlt, jix, jdv, jrd]))
def v_X38_codeOf (x0 : Int) : Int := if x0 = 46 then 37 else if x0 < 97 then if x0 < 48 then 0 else if 57 < x0 then 0 else (W32 ((W32 (x0 - 48)) + 27)) else if 122 < x0 then if x0 < 48 then 0 else if 57 < x0 then 0 else (W32 ((W32 (x0 - 48)) + 27)) else (W32 ((W32 (x0 - 97)) + 1))
set_option maxHeartbeats 20000 in
theorem e_X38_codeOf (s : jS) (x0 : Int) : m_X38_codeOf s x0 = some (v_X38_codeOf x0) := by
  rw [em_X38_codeOf]; unfold dm_X38_codeOf
  unfold v_X38_codeOf
  repeat' (first | refine jite (fun _ => ?_) (fun _ => ?_) | rw [jz] | rw [Option.bind_some] | (rw [eu_X38_codeOf_28]; unfold du_X38_codeOf_28))
  all_goals first | rfl | ((try simp (disch := grind) only [eu_X38_codeOf_28, du_X38_codeOf_28, Option.bind_some, jlet, Wz_0, Wz_1, Wz_if, L_cmp_0, L_cmp_lt, L_cmp_gt]); all_goals (first | rfl | (simp only [v_X38_codeOf, apply_ite some]; done) | ((try simp only [jlt, jix, jdv, jrd, Option.bind_some]); ((repeat' split) <;> first | rfl | omega | (simp_all; done) | (simp_all; omega)); done) | grind (splits := 40) [jlt, jix, jdv, jrd, v_X38_codeOf]))
def v_X38_nameOf (x0 : Int) : Int := if x0 = 0 then 20049 else if x0 = 1 then 3919043 else if x0 = 2 then 16052 else if x0 = 3 then 642098 else if x0 = 4 then 3417 else if x0 = 5 then 3765 else if x0 = 6 then 3700 else if x0 = 7 then 3485 else if x0 = 8 then 148021 else if x0 = 9 then 139421 else if x0 = 10 then 482 else if x0 = 11 then 488 else if x0 = 12 then 503 else if x0 = 13 then 19301 else if x0 = 14 then 19541 else if x0 = 15 then 762 else if x0 = 16 then 768 else if x0 = 17 then 783 else if x0 = 18 then 70569 else if x0 = 19 then 1236009 else if x0 = 20 then 49440381 else if x0 = 21 then 1560729 else if x0 = 22 then 24729 else if x0 = 23 then 86569 else if x0 = 24 then 1235689 else if x0 = 25 then 1245289 else if x0 = 26 then 1244849 else if x0 = 27 then 1764 else if x0 = 28 then 31242 else if x0 = 29 then 30892 else if x0 = 30 then 30900 else if x0 = 31 then 1236021 else if x0 = 32 then 39018 else if x0 = 33 then 31132 else if x0 = 34 then 31121 else if x0 = 35 then 618 else if x0 = 36 then 2164 else if x0 = 37 then 21652 else if x0 = 38 then 866088 else if x0 = 39 then 1385741581 else if x0 = 40 then 34643541 else if x0 = 41 then 6782 else if x0 = 42 then 271301 else if x0 = 43 then 29013 else if x0 = 44 then 1160541 else if x0 = 45 then 15702525 else if x0 = 46 then 12994092 else if x0 = 47 then 518280051 else if x0 = 48 then 1029095858655054 else if x0 = 49 then 251703 else if x0 = 50 then 251983 else if x0 = 51 then 10071016 else if x0 = 52 then 401990569 else if x0 = 53 then 10064052 else if x0 = 54 then 251689 else if x0 = 55 then 1029095858485576 else if x0 = 56 then 10068049 else if x0 = 57 then 403165289 else if x0 = 58 then 403164849 else if x0 = 59 then 402006569 else if x0 = 60 then 10079242 else if x0 = 61 then 10087018 else if x0 = 62 then 251818 else if x0 = 63 then 10050164 else if x0 = 64 then 6290 else if x0 = 65 then 402056706 else if x0 = 66 then 402070626 else if x0 = 67 then 403155689 else if x0 = 68 then 402725576 else if x0 = 69 then 251618 else if x0 = 70 then 251742 else if x0 = 71 then 643590280051 else if x0 = 72 then 402562098 else if x0 = 73 then 10049764 else 403173576
set_option maxHeartbeats 20000 in
theorem e_X38_nameOf (s : jS) (x0 : Int) : m_X38_nameOf s x0 = some (v_X38_nameOf x0) := by
  rw [em_X38_nameOf]; unfold dm_X38_nameOf
  unfold v_X38_nameOf
  repeat' (first | refine jite (fun _ => ?_) (fun _ => ?_) | rw [jz] | rw [Option.bind_some])
  all_goals first | rfl | ((try simp (disch := grind) only [Option.bind_some, jlet, Wz_0, Wz_1, Wz_if, L_cmp_0, L_cmp_lt, L_cmp_gt]); all_goals (first | rfl | (simp only [v_X38_nameOf, apply_ite some]; done) | ((try simp only [jlt, jix, jdv, jrd, Option.bind_some]); ((repeat' split) <;> first | rfl | omega | (simp_all; done) | (simp_all; omega)); done) | grind (splits := 40) [jlt, jix, jdv, jrd, v_X38_nameOf]))
set_option maxHeartbeats 20000 in
theorem e_X38_isKind (s : jS) (x0 : Int) : m_X38_isKind s x0 = some (if ¬ (x0 < 0) ∧ (x0 < 75) then 1 else 0) := by
  rw [em_X38_isKind]; unfold dm_X38_isKind
  all_goals first | rfl | ((try simp (disch := grind) only [Option.bind_some, jlet, Wz_0, Wz_1, Wz_if, L_cmp_0, L_cmp_lt, L_cmp_gt]); all_goals (first | rfl | ((by_cases hP : (¬ (x0 < 0) ∧ (x0 < 75))) <;> (first | rw [if_pos hP] | rw [if_neg hP]) <;> (try simp only [jlt, jix, jdv, jrd, Option.bind_some]) <;> (repeat' split) <;> first | rfl | (exfalso; omega) | (simp_all; done) | (simp_all; omega)) | grind (splits := 40) [jlt, jix, jdv, jrd]))
set_option maxHeartbeats 20000 in
theorem e_X38_bitsOf (s : jS) (x0 : Int) : m_X38_bitsOf s x0 = some (if x0 < 48 then 32 else 16) := by
  rw [em_X38_bitsOf]; unfold dm_X38_bitsOf
  repeat' (first | refine jite (fun _ => ?_) (fun _ => ?_) | rw [jz] | rw [Option.bind_some])
  all_goals first | rfl | ((try simp (disch := grind) only [Option.bind_some, jlet, Wz_0, Wz_1, Wz_if, L_cmp_0, L_cmp_lt, L_cmp_gt]); all_goals (first | rfl | (simp only [apply_ite some]; done) | ((try simp only [jlt, jix, jdv, jrd, Option.bind_some]); ((repeat' split) <;> first | rfl | omega | (simp_all; done) | (simp_all; omega)); done) | grind (splits := 40) [jlt, jix, jdv, jrd]))
set_option maxHeartbeats 20000 in
theorem e_X38_isStep (s : jS) (x0 x2 x4 x6 : Int) (h0 : ¬ (x0 < x2) → ¬ (x4 < x0) → (¬ x6 = 0)) : m_X38_isStep s x0 x2 x4 x6 = some (if ¬ (x0 < x2) ∧ (¬ (x4 < x0) ∧ ((L_rem x0 x6) = 0)) then 1 else 0) := by
  rw [em_X38_isStep]; unfold dm_X38_isStep
  all_goals first | rfl | ((try simp (disch := grind) only [Option.bind_some, jlet, Wz_0, Wz_1, Wz_if, L_cmp_0, L_cmp_lt, L_cmp_gt]); all_goals (first | rfl | ((by_cases hP : (¬ (x0 < x2) ∧ (¬ (x4 < x0) ∧ ((L_rem x0 x6) = 0)))) <;> (first | rw [if_pos hP] | rw [if_neg hP]) <;> (try simp only [jlt, jix, jdv, jrd, Option.bind_some]) <;> (repeat' split) <;> first | rfl | (exfalso; omega) | (simp_all; done) | (simp_all; omega)) | grind (splits := 40) [jlt, jix, jdv, jrd]))
set_option maxHeartbeats 20000 in
theorem e_X38_isLong (s : jS) (x0 : Int) : m_X38_isLong s x0 = some (if (I_and x0 3) = 3 then 1 else 0) := by
  rw [em_X38_isLong]; unfold dm_X38_isLong
  all_goals first | rfl | ((try simp (disch := grind) only [Option.bind_some, jlet, Wz_0, Wz_1, Wz_if, L_cmp_0, L_cmp_lt, L_cmp_gt]); all_goals (first | rfl | ((by_cases hP : ((I_and x0 3) = 3)) <;> (first | rw [if_pos hP] | rw [if_neg hP]) <;> (try simp only [jlt, jix, jdv, jrd, Option.bind_some]) <;> (repeat' split) <;> first | rfl | (exfalso; omega) | (simp_all; done) | (simp_all; omega)) | grind (splits := 40) [jlt, jix, jdv, jrd]))
def v_X38_signOf (x0 : Int) : Int := if x0 < 2 then (-1) else if (23 < x0) ∧ (x0 < 27) then (-1) else if x0 = 2 then 20 else if x0 < 48 then if (3 < x0) ∧ (x0 < 10) then 12 else 11 else if x0 = 52 then 5 else if x0 = 53 then 11 else if x0 = 54 then 5 else if x0 = 55 then 9 else if x0 = 56 then 5 else if x0 = 57 then (-1) else if x0 = 58 then (-1) else if x0 = 59 then 5 else if x0 = 60 then (-1) else if x0 = 61 then (-1) else if x0 = 62 then (-1) else if x0 = 63 then (-1) else if x0 = 64 then 11 else if x0 = 65 then 8 else if x0 = 66 then 8 else (-1)
set_option maxHeartbeats 20000 in
theorem e_X38_signOf (s : jS) (x0 : Int) : m_X38_signOf s x0 = some (v_X38_signOf x0) := by
  rw [em_X38_signOf]; unfold dm_X38_signOf
  unfold v_X38_signOf
  repeat' (first | refine jite (fun _ => ?_) (fun _ => ?_) | rw [jz] | rw [Option.bind_some] | rw [e_X38_isBranch] | rw [e_X38_isShift])
  all_goals first | rfl | ((try simp (disch := grind) only [e_X38_isBranch, e_X38_isShift, Option.bind_some, jlet, Wz_0, Wz_1, Wz_if, L_cmp_0, L_cmp_lt, L_cmp_gt]); all_goals (first | rfl | (simp only [v_X38_signOf, apply_ite some]; done) | ((try simp only [jlt, jix, jdv, jrd, Option.bind_some]); ((repeat' split) <;> first | rfl | omega | (simp_all; done) | (simp_all; omega)); done) | grind (splits := 40) [jlt, jix, jdv, jrd, v_X38_signOf]))
def v_X38_longKind (x0 : Int) : Int := if x0 = 48 then 18 else if x0 = 49 then 12 else if x0 = 50 then 17 else if x0 = 51 then 18 else if x0 = 52 then 18 else if x0 = 53 then 2 else if x0 = 54 then 18 else if x0 = 55 then 18 else if x0 = 56 then 0 else if x0 = 57 then 25 else if x0 = 58 then 26 else if x0 = 59 then 23 else if x0 = 60 then 28 else if x0 = 61 then 32 else if x0 = 62 then 35 else if x0 = 63 then 36 else if x0 = 64 then 2 else if x0 = 65 then 4 else if x0 = 66 then 5 else if x0 = 67 then 24 else if x0 = 68 then 12 else if x0 = 69 then 3 else if x0 = 70 then 27 else if x0 = 71 then 47 else if x0 = 72 then 3 else if x0 = 73 then 27 else if x0 = 74 then 17 else 27
set_option maxHeartbeats 20000 in
theorem e_X38_longKind (s : jS) (x0 : Int) : m_X38_longKind s x0 = some (v_X38_longKind x0) := by
  rw [em_X38_longKind]; unfold dm_X38_longKind
  unfold v_X38_longKind
  repeat' (first | refine jite (fun _ => ?_) (fun _ => ?_) | rw [jz] | rw [Option.bind_some])
  all_goals first | rfl | ((try simp (disch := grind) only [Option.bind_some, jlet, Wz_0, Wz_1, Wz_if, L_cmp_0, L_cmp_lt, L_cmp_gt]); all_goals (first | rfl | (simp only [v_X38_longKind, apply_ite some]; done) | ((try simp only [jlt, jix, jdv, jrd, Option.bind_some]); ((repeat' split) <;> first | rfl | omega | (simp_all; done) | (simp_all; omega)); done) | grind (splits := 40) [jlt, jix, jdv, jrd, v_X38_longKind]))
def v_X38_patternOf (x0 : Int) : Int := if x0 < 2 then 6 else if x0 = 56 then 6 else if x0 = 2 then 7 else if x0 = 3 then 3 else if 9 < x0 then if x0 < 15 then 3 else if x0 = 49 then 3 else if (3 < x0) ∧ (x0 < 10) then 5 else if (14 < x0) ∧ (x0 < 18) then 4 else if x0 = 50 then 4 else if x0 < 27 then 2 else if x0 < 45 then 1 else if x0 < 48 then 0 else if x0 = 51 then 0 else if x0 = 71 then 0 else if x0 = 48 then 15 else if x0 = 49 then 12 else if x0 = 50 then 12 else if x0 = 51 then 12 else if x0 = 52 then 12 else if x0 = 53 then 8 else if x0 = 54 then 12 else if x0 = 55 then 16 else if x0 = 56 then 12 else if x0 = 57 then 12 else if x0 = 58 then 12 else if x0 = 59 then 12 else if x0 = 60 then 10 else if x0 = 61 then 10 else if x0 = 62 then 10 else if x0 = 63 then 10 else if x0 = 64 then 8 else if x0 = 65 then 9 else if x0 = 66 then 9 else if x0 = 67 then 12 else if x0 = 68 then 13 else if x0 = 69 then 11 else if x0 = 70 then 10 else if x0 = 71 then 12 else if x0 = 72 then 11 else if x0 = 73 then 10 else if x0 = 74 then 14 else 12 else if x0 = 49 then 3 else if (3 < x0) ∧ (x0 < 10) then 5 else if (14 < x0) ∧ (x0 < 18) then 4 else if x0 = 50 then 4 else if x0 < 27 then 2 else if x0 < 45 then 1 else if x0 < 48 then 0 else if x0 = 51 then 0 else if x0 = 71 then 0 else if x0 = 48 then 15 else if x0 = 49 then 12 else if x0 = 50 then 12 else if x0 = 51 then 12 else if x0 = 52 then 12 else if x0 = 53 then 8 else if x0 = 54 then 12 else if x0 = 55 then 16 else if x0 = 56 then 12 else if x0 = 57 then 12 else if x0 = 58 then 12 else if x0 = 59 then 12 else if x0 = 60 then 10 else if x0 = 61 then 10 else if x0 = 62 then 10 else if x0 = 63 then 10 else if x0 = 64 then 8 else if x0 = 65 then 9 else if x0 = 66 then 9 else if x0 = 67 then 12 else if x0 = 68 then 13 else if x0 = 69 then 11 else if x0 = 70 then 10 else if x0 = 71 then 12 else if x0 = 72 then 11 else if x0 = 73 then 10 else if x0 = 74 then 14 else 12
set_option maxHeartbeats 20000 in
theorem e_X38_patternOf (s : jS) (x0 : Int) : m_X38_patternOf s x0 = some (v_X38_patternOf x0) := by
  rw [em_X38_patternOf]; unfold dm_X38_patternOf
  unfold v_X38_patternOf
  repeat' (first | refine jite (fun _ => ?_) (fun _ => ?_) | rw [jz] | rw [Option.bind_some] | rw [e_X38_isBranch] | rw [e_X38_isStore] | (rw [eu_X38_patternOf_39]; unfold du_X38_patternOf_39))
  all_goals first | rfl | ((try simp (disch := grind) only [eu_X38_patternOf_39, du_X38_patternOf_39, e_X38_isBranch, e_X38_isStore, Option.bind_some, jlet, Wz_0, Wz_1, Wz_if, L_cmp_0, L_cmp_lt, L_cmp_gt]); all_goals (first | rfl | (simp only [v_X38_patternOf, apply_ite some]; done) | ((try simp only [jlt, jix, jdv, jrd, Option.bind_some]); ((repeat' split) <;> first | rfl | omega | (simp_all; done) | (simp_all; omega)); done) | grind (splits := 40) [jlt, jix, jdv, jrd, v_X38_patternOf]))
set_option maxHeartbeats 20000 in
theorem e_X38_thrown (s : jS) (x0 : Int) : m_X38_thrown s x0 = some ((jf s 42 x0 0)) := by
  rw [em_X38_thrown]; unfold dm_X38_thrown
  repeat' (first | refine jite (fun _ => ?_) (fun _ => ?_) | rw [jz] | rw [Option.bind_some])
  all_goals first | rfl | ((try simp (disch := grind) only [Option.bind_some, jlet, Wz_0, Wz_1, Wz_if, L_cmp_0, L_cmp_lt, L_cmp_gt]); all_goals (first | rfl | (simp only [apply_ite some]; done) | ((try simp only [jlt, jix, jdv, jrd, Option.bind_some]); ((repeat' split) <;> first | rfl | omega | (simp_all; done) | (simp_all; omega)); done) | grind (splits := 40) [jlt, jix, jdv, jrd]))
def v_X38_registerOf (x0 : Int) : Int := if x0 = 0 then 1672735 else if x0 = 1 then 721 else if x0 = 2 then 776 else if x0 = 3 then 296 else if x0 = 4 then 816 else if x0 = 5 then 827 else if x0 = 6 then 828 else if x0 = 7 then 829 else if x0 = 8 then 787 else if x0 = 9 then 788 else if x0 = 10 then 67 else if x0 = 11 then 68 else if x0 = 12 then 69 else if x0 = 13 then 70 else if x0 = 14 then 71 else if x0 = 15 then 72 else if x0 = 16 then 73 else if x0 = 17 then 74 else if x0 = 18 then 789 else if x0 = 19 then 790 else if x0 = 20 then 791 else if x0 = 21 then 792 else if x0 = 22 then 793 else if x0 = 23 then 794 else if x0 = 24 then 795 else if x0 = 25 then 796 else if x0 = 26 then 31547 else if x0 = 27 then 31548 else if x0 = 28 then 830 else if x0 = 29 then 831 else if x0 = 30 then 832 else 833
set_option maxHeartbeats 20000 in
theorem e_X38_registerOf (s : jS) (x0 : Int) : m_X38_registerOf s x0 = some (v_X38_registerOf x0) := by
  rw [em_X38_registerOf]; unfold dm_X38_registerOf
  unfold v_X38_registerOf
  repeat' (first | refine jite (fun _ => ?_) (fun _ => ?_) | rw [jz] | rw [Option.bind_some])
  all_goals first | rfl | ((try simp (disch := grind) only [Option.bind_some, jlet, Wz_0, Wz_1, Wz_if, L_cmp_0, L_cmp_lt, L_cmp_gt]); all_goals (first | rfl | (simp only [v_X38_registerOf, apply_ite some]; done) | ((try simp only [jlt, jix, jdv, jrd, Option.bind_some]); ((repeat' split) <;> first | rfl | omega | (simp_all; done) | (simp_all; omega)); done) | grind (splits := 40) [jlt, jix, jdv, jrd, v_X38_registerOf]))
set_option maxHeartbeats 20000 in
theorem e_X39_isLetter (s : jS) (x0 : Int) : m_X39_isLetter s x0 = some (if (x0 < 97) ∧ ((x0 < 65) ∧ ((x0 = 95) ∨ (x0 = 46)) ∨ ¬ (x0 < 65) ∧ (¬ (90 < x0) ∨ ((x0 = 95) ∨ (x0 = 46)))) ∨ ¬ (x0 < 97) ∧ (¬ (122 < x0) ∨ ((x0 < 65) ∧ ((x0 = 95) ∨ (x0 = 46)) ∨ ¬ (x0 < 65) ∧ (¬ (90 < x0) ∨ ((x0 = 95) ∨ (x0 = 46))))) then 1 else 0) := by
  rw [em_X39_isLetter]; unfold dm_X39_isLetter
  all_goals first | rfl | ((try simp (disch := grind) only [eu_X39_isLetter_12, du_X39_isLetter_12, eu_X39_isLetter_24, du_X39_isLetter_24, Option.bind_some, jlet, Wz_0, Wz_1, Wz_if, L_cmp_0, L_cmp_lt, L_cmp_gt]); all_goals (first | rfl | ((by_cases hP : ((x0 < 97) ∧ ((x0 < 65) ∧ ((x0 = 95) ∨ (x0 = 46)) ∨ ¬ (x0 < 65) ∧ (¬ (90 < x0) ∨ ((x0 = 95) ∨ (x0 = 46)))) ∨ ¬ (x0 < 97) ∧ (¬ (122 < x0) ∨ ((x0 < 65) ∧ ((x0 = 95) ∨ (x0 = 46)) ∨ ¬ (x0 < 65) ∧ (¬ (90 < x0) ∨ ((x0 = 95) ∨ (x0 = 46))))))) <;> (first | rw [if_pos hP] | rw [if_neg hP]) <;> (try simp only [jlt, jix, jdv, jrd, Option.bind_some]) <;> (repeat' split) <;> first | rfl | (exfalso; omega) | (simp_all; done) | (simp_all; omega)) | grind (splits := 40) [jlt, jix, jdv, jrd]))
set_option maxHeartbeats 20000 in
theorem e_X39_isDigit (s : jS) (x0 : Int) : m_X39_isDigit s x0 = some (if ¬ (x0 < 48) ∧ (¬ (57 < x0)) then 1 else 0) := by
  rw [em_X39_isDigit]; unfold dm_X39_isDigit
  all_goals first | rfl | ((try simp (disch := grind) only [Option.bind_some, jlet, Wz_0, Wz_1, Wz_if, L_cmp_0, L_cmp_lt, L_cmp_gt]); all_goals (first | rfl | ((by_cases hP : (¬ (x0 < 48) ∧ (¬ (57 < x0)))) <;> (first | rw [if_pos hP] | rw [if_neg hP]) <;> (try simp only [jlt, jix, jdv, jrd, Option.bind_some]) <;> (repeat' split) <;> first | rfl | (exfalso; omega) | (simp_all; done) | (simp_all; omega)) | grind (splits := 40) [jlt, jix, jdv, jrd]))
set_option maxHeartbeats 20000 in
theorem e_X39_at (s : jS) (x0 x1 : Int) (h0 : x1 < (jf s 43 x0 3) → (0 ≤ x1 ∧ x1 < 3000)) : m_X39_at s x0 x1 = some (if x1 < (jf s 43 x0 3) then (jf s 1000 (x0 + 2) x1) else 10) := by
  rw [em_X39_at]; unfold dm_X39_at
  repeat' (first | refine jite (fun _ => ?_) (fun _ => ?_) | rw [jz] | rw [Option.bind_some])
  all_goals first | rfl | ((try simp (disch := grind) only [Option.bind_some, jlet, Wz_0, Wz_1, Wz_if, L_cmp_0, L_cmp_lt, L_cmp_gt]); all_goals (first | rfl | (simp only [apply_ite some]; done) | ((try simp only [jlt, jix, jdv, jrd, Option.bind_some]); ((repeat' split) <;> first | rfl | omega | (simp_all; done) | (simp_all; omega)); done) | grind (splits := 40) [jlt, jix, jdv, jrd]))
def v_X39_digitOf (x0 : Int) : Int := if ¬ (x0 < 48) ∧ (¬ (57 < x0)) then (W32 (x0 - 48)) else if x0 < 97 then if x0 < 65 then 99 else if 70 < x0 then 99 else (W32 (x0 - 55)) else if 102 < x0 then if x0 < 65 then 99 else if 70 < x0 then 99 else (W32 (x0 - 55)) else (W32 (x0 - 87))
set_option maxHeartbeats 20000 in
theorem e_X39_digitOf (s : jS) (x0 : Int) : m_X39_digitOf s x0 = some (v_X39_digitOf x0) := by
  rw [em_X39_digitOf]; unfold dm_X39_digitOf
  unfold v_X39_digitOf
  repeat' (first | refine jite (fun _ => ?_) (fun _ => ?_) | rw [jz] | rw [Option.bind_some] | rw [e_X39_isDigit] | (rw [eu_X39_digitOf_31]; unfold du_X39_digitOf_31))
  all_goals first | rfl | ((try simp (disch := grind) only [eu_X39_digitOf_31, du_X39_digitOf_31, e_X39_isDigit, Option.bind_some, jlet, Wz_0, Wz_1, Wz_if, L_cmp_0, L_cmp_lt, L_cmp_gt]); all_goals (first | rfl | (simp only [v_X39_digitOf, apply_ite some]; done) | ((try simp only [jlt, jix, jdv, jrd, Option.bind_some]); ((repeat' split) <;> first | rfl | omega | (simp_all; done) | (simp_all; omega)); done) | grind (splits := 40) [jlt, jix, jdv, jrd, v_X39_digitOf]))
set_option maxHeartbeats 20000 in
theorem e_X39_byteOf (s : jS) (x0 x1 : Int) (h0 : (W32 ((jf s 43 x0 17) + x1)) < (jf s 43 x0 18) → (0 ≤ (W32 ((jf s 43 x0 17) + x1)) ∧ (W32 ((jf s 43 x0 17) + x1)) < 3000)) : m_X39_byteOf s x0 x1 = some (if (W32 ((jf s 43 x0 17) + x1)) < (jf s 43 x0 18) then (jf s 1000 (x0 + 2) (W32 ((jf s 43 x0 17) + x1))) else 0) := by
  rw [em_X39_byteOf]; unfold dm_X39_byteOf
  repeat' (first | refine jite (fun _ => ?_) (fun _ => ?_) | rw [jz] | rw [Option.bind_some])
  all_goals first | rfl | ((try simp (disch := grind) only [Option.bind_some, jlet, Wz_0, Wz_1, Wz_if, L_cmp_0, L_cmp_lt, L_cmp_gt]); all_goals (first | rfl | (simp only [apply_ite some]; done) | ((try simp only [jlt, jix, jdv, jrd, Option.bind_some]); ((repeat' split) <;> first | rfl | omega | (simp_all; done) | (simp_all; omega)); done) | grind (splits := 40) [jlt, jix, jdv, jrd]))
set_option maxHeartbeats 20000 in
theorem e_X39_isSign (s : jS) (x0 x1 : Int) : m_X39_isSign s x0 x1 = some (if ((jf s 43 x0 15) = 5) ∧ ((jf s 43 x0 16) = x1) then 1 else 0) := by
  rw [em_X39_isSign]; unfold dm_X39_isSign
  all_goals first | rfl | ((try simp (disch := grind) only [Option.bind_some, jlet, Wz_0, Wz_1, Wz_if, L_cmp_0, L_cmp_lt, L_cmp_gt]); all_goals (first | rfl | ((by_cases hP : (((jf s 43 x0 15) = 5) ∧ ((jf s 43 x0 16) = x1))) <;> (first | rw [if_pos hP] | rw [if_neg hP]) <;> (try simp only [jlt, jix, jdv, jrd, Option.bind_some]) <;> (repeat' split) <;> first | rfl | (exfalso; omega) | (simp_all; done) | (simp_all; omega)) | grind (splits := 40) [jlt, jix, jdv, jrd]))
def v_X39_operator (s : jS) (x0 : Int) : Int := if (jf s 43 x0 15) = 5 then if (jf s 43 x0 16) = 37 then 16 else if (jf s 43 x0 16) = 38 then 19 else if (jf s 43 x0 16) = 42 then 14 else if (jf s 43 x0 16) = 43 then 12 else if (jf s 43 x0 16) = 45 then 13 else if (jf s 43 x0 16) = 47 then 15 else if (jf s 43 x0 16) = 94 then 20 else if (jf s 43 x0 16) = 124 then 21 else if (jf s 43 x0 16) = 300 then 17 else if (jf s 43 x0 16) = 301 then 18 else 0 else 0
set_option maxHeartbeats 20000 in
theorem e_X39_operator (s : jS) (x0 : Int) : m_X39_operator s x0 = some (v_X39_operator s x0) := by
  rw [em_X39_operator]; unfold dm_X39_operator
  unfold v_X39_operator
  repeat' (first | refine jite (fun _ => ?_) (fun _ => ?_) | rw [jz] | rw [Option.bind_some])
  all_goals first | rfl | ((try simp (disch := grind) only [Option.bind_some, jlet, Wz_0, Wz_1, Wz_if, L_cmp_0, L_cmp_lt, L_cmp_gt]); all_goals (first | rfl | (simp only [v_X39_operator, apply_ite some]; done) | ((try simp only [jlt, jix, jdv, jrd, Option.bind_some]); ((repeat' split) <;> first | rfl | omega | (simp_all; done) | (simp_all; omega)); done) | grind (splits := 40) [jlt, jix, jdv, jrd, v_X39_operator]))
def v_X39_binds (x0 : Int) : Int := if x0 = 12 then 5 else if x0 = 13 then 5 else if x0 = 14 then 6 else if x0 = 15 then 6 else if x0 = 16 then 6 else if x0 = 17 then 4 else if x0 = 18 then 4 else if x0 = 19 then 3 else if x0 = 20 then 2 else if x0 = 21 then 1 else 7
set_option maxHeartbeats 20000 in
theorem e_X39_binds (s : jS) (x0 : Int) : m_X39_binds s x0 = some (v_X39_binds x0) := by
  rw [em_X39_binds]; unfold dm_X39_binds
  unfold v_X39_binds
  repeat' (first | refine jite (fun _ => ?_) (fun _ => ?_) | rw [jz] | rw [Option.bind_some])
  all_goals first | rfl | ((try simp (disch := grind) only [Option.bind_some, jlet, Wz_0, Wz_1, Wz_if, L_cmp_0, L_cmp_lt, L_cmp_gt]); all_goals (first | rfl | (simp only [v_X39_binds, apply_ite some]; done) | ((try simp only [jlt, jix, jdv, jrd, Option.bind_some]); ((repeat' split) <;> first | rfl | omega | (simp_all; done) | (simp_all; omega)); done) | grind (splits := 40) [jlt, jix, jdv, jrd, v_X39_binds]))
def v_X39_worked (x0 x1 x2 : Int) : Int := if x0 = 12 then (W32 (x1 + x2)) else if x0 = 13 then (W32 (x1 - x2)) else if x0 = 14 then (W32 (x1 * x2)) else if x0 = 15 then if x2 = (-1) then (W32 (-x1)) else (I_div x1 x2) else if x0 = 16 then if x2 = (-1) then 0 else (I_rem x1 x2) else if x0 = 17 then (I_shl x1 (I_and x2 31)) else if x0 = 18 then (I_ushr x1 (I_and x2 31)) else if x0 = 19 then (I_and x1 x2) else if x0 = 20 then (I_xor x1 x2) else (I_or x1 x2)
set_option maxHeartbeats 20000 in
theorem e_X39_worked (s : jS) (x0 x1 x2 : Int) (h0 : ¬ (x0 = 12) → ¬ (x0 = 13) → ¬ (x0 = 14) → x0 = 15 → ¬ (x2 = (-1)) → (¬ x2 = 0)) (h1 : ¬ (x0 = 12) → ¬ (x0 = 13) → ¬ (x0 = 14) → ¬ (x0 = 15) → x0 = 16 → ¬ (x2 = (-1)) → (¬ x2 = 0)) : m_X39_worked s x0 x1 x2 = some (v_X39_worked x0 x1 x2) := by
  rw [em_X39_worked]; unfold dm_X39_worked
  unfold v_X39_worked
  repeat' (first | refine jite (fun _ => ?_) (fun _ => ?_) | rw [jz] | rw [Option.bind_some])
  all_goals first | rfl | ((try simp (disch := grind) only [Option.bind_some, jlet, Wz_0, Wz_1, Wz_if, L_cmp_0, L_cmp_lt, L_cmp_gt]); all_goals (first | rfl | (simp only [v_X39_worked, apply_ite some]; done) | ((try simp only [jlt, jix, jdv, jrd, Option.bind_some]); ((repeat' split) <;> first | rfl | omega | (simp_all; done) | (simp_all; omega)); done) | grind (splits := 40) [jlt, jix, jdv, jrd, v_X39_worked]))
set_option maxHeartbeats 20000 in
theorem e_X40_read2 (s : jS) (x0 x1 : Int) (h0 : (0 ≤ x1 ∧ x1 < 8192)) (h1 : (0 ≤ (W32 (x1 + 1)) ∧ (W32 (x1 + 1)) < 8192)) : m_X40_read2 s x0 x1 = some ((I_or (jf s 1000 (x0 + 21) x1) (I_shl (jf s 1000 (x0 + 21) (W32 (x1 + 1))) 8))) := by
  rw [em_X40_read2]; unfold dm_X40_read2
  repeat' (first | refine jite (fun _ => ?_) (fun _ => ?_) | rw [jz] | rw [Option.bind_some])
  all_goals first | rfl | ((try simp (disch := grind) only [Option.bind_some, jlet, Wz_0, Wz_1, Wz_if, L_cmp_0, L_cmp_lt, L_cmp_gt]); all_goals (first | rfl | (simp only [apply_ite some]; done) | ((try simp only [jlt, jix, jdv, jrd, Option.bind_some]); ((repeat' split) <;> first | rfl | omega | (simp_all; done) | (simp_all; omega)); done) | grind (splits := 40) [jlt, jix, jdv, jrd]))
def v_X40_read4 (s : jS) (x0 x1 : Int) : Int := (W64 ((I_or (jf s 1000 (x0 + 21) x1) (I_shl (jf s 1000 (x0 + 21) (W32 (x1 + 1))) 8)) + (W64 (65536 * (I_or (jf s 1000 (x0 + 21) (W32 (x1 + 2))) (I_shl (jf s 1000 (x0 + 21) (W32 ((W32 (x1 + 2)) + 1))) 8))))))
set_option maxHeartbeats 20000 in
theorem e_X40_read4 (s : jS) (x0 x1 : Int) (h0 : (0 ≤ x1 ∧ x1 < 8192)) (h1 : (0 ≤ (W32 (x1 + 1)) ∧ (W32 (x1 + 1)) < 8192)) (h2 : (0 ≤ (W32 (x1 + 2)) ∧ (W32 (x1 + 2)) < 8192)) (h3 : (0 ≤ (W32 ((W32 (x1 + 2)) + 1)) ∧ (W32 ((W32 (x1 + 2)) + 1)) < 8192)) : m_X40_read4 s x0 x1 = some (v_X40_read4 s x0 x1) := by
  rw [em_X40_read4]; unfold dm_X40_read4
  unfold v_X40_read4
  repeat' (first | refine jite (fun _ => ?_) (fun _ => ?_) | rw [jz] | rw [Option.bind_some])
  all_goals first | rfl | ((try simp (disch := grind) only [e_X40_read2, Option.bind_some, jlet, Wz_0, Wz_1, Wz_if, L_cmp_0, L_cmp_lt, L_cmp_gt]); all_goals (first | rfl | (simp only [v_X40_read4, apply_ite some]; done) | ((try simp only [jlt, jix, jdv, jrd, Option.bind_some]); ((repeat' split) <;> first | rfl | omega | (simp_all; done) | (simp_all; omega)); done) | grind (splits := 40) [jlt, jix, jdv, jrd, v_X40_read4]))
set_option maxHeartbeats 20000 in
theorem e_X40_spotOf (s : jS) (x0 x1 x2 : Int) : m_X40_spotOf s x0 x1 x2 = some ((W32 ((W32 ((jf s 44 x0 39) + (W32 (40 * x1)))) + (W32 (4 * x2))))) := by
  rw [em_X40_spotOf]; unfold dm_X40_spotOf
  repeat' (first | refine jite (fun _ => ?_) (fun _ => ?_) | rw [jz] | rw [Option.bind_some])
  all_goals first | rfl | ((try simp (disch := grind) only [Option.bind_some, jlet, Wz_0, Wz_1, Wz_if, L_cmp_0, L_cmp_lt, L_cmp_gt]); all_goals (first | rfl | (simp only [apply_ite some]; done) | ((try simp only [jlt, jix, jdv, jrd, Option.bind_some]); ((repeat' split) <;> first | rfl | omega | (simp_all; done) | (simp_all; omega)); done) | grind (splits := 40) [jlt, jix, jdv, jrd]))
set_option maxHeartbeats 20000 in
theorem e_X40_isPower (s : jS) (x0 : Int) : m_X40_isPower s x0 = some (if (x0 = 1) ∨ ((x0 = 2) ∨ ((x0 = 4) ∨ ((x0 = 8) ∨ ((x0 = 16) ∨ ((x0 = 32) ∨ (x0 = 64)))))) then 1 else 0) := by
  rw [em_X40_isPower]; unfold dm_X40_isPower
  all_goals first | rfl | ((try simp (disch := grind) only [Option.bind_some, jlet, Wz_0, Wz_1, Wz_if, L_cmp_0, L_cmp_lt, L_cmp_gt]); all_goals (first | rfl | ((by_cases hP : ((x0 = 1) ∨ ((x0 = 2) ∨ ((x0 = 4) ∨ ((x0 = 8) ∨ ((x0 = 16) ∨ ((x0 = 32) ∨ (x0 = 64)))))))) <;> (first | rw [if_pos hP] | rw [if_neg hP]) <;> (try simp only [jlt, jix, jdv, jrd, Option.bind_some]) <;> (repeat' split) <;> first | rfl | (exfalso; omega) | (simp_all; done) | (simp_all; omega)) | grind (splits := 40) [jlt, jix, jdv, jrd]))
set_option maxHeartbeats 20000 in
theorem e_X40_meets (s : jS) (x0 x2 x4 x6 : Int) : m_X40_meets s x0 x2 x4 x6 = some (if (0 < x2) ∧ ((0 < x6) ∧ ((x0 < (W64 (x4 + x6))) ∧ (x4 < (W64 (x0 + x2))))) then 1 else 0) := by
  rw [em_X40_meets]; unfold dm_X40_meets
  all_goals first | rfl | ((try simp (disch := grind) only [Option.bind_some, jlet, Wz_0, Wz_1, Wz_if, L_cmp_0, L_cmp_lt, L_cmp_gt]); all_goals (first | rfl | ((by_cases hP : ((0 < x2) ∧ ((0 < x6) ∧ ((x0 < (W64 (x4 + x6))) ∧ (x4 < (W64 (x0 + x2))))))) <;> (first | rw [if_pos hP] | rw [if_neg hP]) <;> (try simp only [jlt, jix, jdv, jrd, Option.bind_some]) <;> (repeat' split) <;> first | rfl | (exfalso; omega) | (simp_all; done) | (simp_all; omega)) | grind (splits := 40) [jlt, jix, jdv, jrd]))
set_option maxHeartbeats 20000 in
theorem e_X40_sortOf (s : jS) (x0 : Int) : m_X40_sortOf s x0 = some (if x0 = 3 then 8 else if x0 < 5 then if x0 = 8 then 2 else if 8 < x0 then 3 else 1 else if x0 < 8 then 4 else if x0 = 8 then 2 else if 8 < x0 then 3 else 1) := by
  rw [em_X40_sortOf]; unfold dm_X40_sortOf
  repeat' (first | refine jite (fun _ => ?_) (fun _ => ?_) | rw [jz] | rw [Option.bind_some] | (rw [eu_X40_sortOf_25]; unfold du_X40_sortOf_25))
  all_goals first | rfl | ((try simp (disch := grind) only [eu_X40_sortOf_25, du_X40_sortOf_25, Option.bind_some, jlet, Wz_0, Wz_1, Wz_if, L_cmp_0, L_cmp_lt, L_cmp_gt]); all_goals (first | rfl | (simp only [apply_ite some]; done) | ((try simp only [jlt, jix, jdv, jrd, Option.bind_some]); ((repeat' split) <;> first | rfl | omega | (simp_all; done) | (simp_all; omega)); done) | grind (splits := 40) [jlt, jix, jdv, jrd]))
set_option maxHeartbeats 20000 in
theorem e_X40_flagsOf (s : jS) (x0 : Int) : m_X40_flagsOf s x0 = some (if x0 = 0 then 6 else if x0 = 1 then 2 else if x0 < 4 then 3 else if x0 < 5 then 0 else if x0 < 8 then 64 else 0) := by
  rw [em_X40_flagsOf]; unfold dm_X40_flagsOf
  repeat' (first | refine jite (fun _ => ?_) (fun _ => ?_) | rw [jz] | rw [Option.bind_some])
  all_goals first | rfl | ((try simp (disch := grind) only [Option.bind_some, jlet, Wz_0, Wz_1, Wz_if, L_cmp_0, L_cmp_lt, L_cmp_gt]); all_goals (first | rfl | (simp only [apply_ite some]; done) | ((try simp only [jlt, jix, jdv, jrd, Option.bind_some]); ((repeat' split) <;> first | rfl | omega | (simp_all; done) | (simp_all; omega)); done) | grind (splits := 40) [jlt, jix, jdv, jrd]))
set_option maxHeartbeats 20000 in
theorem e_X40_eachOf (s : jS) (x0 : Int) : m_X40_eachOf s x0 = some (if x0 = 4 then 2 else if x0 < 5 then if x0 = 8 then 16 else 0 else if x0 < 8 then 12 else if x0 = 8 then 16 else 0) := by
  rw [em_X40_eachOf]; unfold dm_X40_eachOf
  repeat' (first | refine jite (fun _ => ?_) (fun _ => ?_) | rw [jz] | rw [Option.bind_some] | (rw [eu_X40_eachOf_25]; unfold du_X40_eachOf_25))
  all_goals first | rfl | ((try simp (disch := grind) only [eu_X40_eachOf_25, du_X40_eachOf_25, Option.bind_some, jlet, Wz_0, Wz_1, Wz_if, L_cmp_0, L_cmp_lt, L_cmp_gt]); all_goals (first | rfl | (simp only [apply_ite some]; done) | ((try simp only [jlt, jix, jdv, jrd, Option.bind_some]); ((repeat' split) <;> first | rfl | omega | (simp_all; done) | (simp_all; omega)); done) | grind (splits := 40) [jlt, jix, jdv, jrd]))
set_option maxHeartbeats 20000 in
theorem e_X40_isAlone (s : jS) (x0 : Int) : m_X40_isAlone s x0 = some (if (x0 = 43) ∨ (x0 = 51) then 1 else 0) := by
  rw [em_X40_isAlone]; unfold dm_X40_isAlone
  all_goals first | rfl | ((try simp (disch := grind) only [Option.bind_some, jlet, Wz_0, Wz_1, Wz_if, L_cmp_0, L_cmp_lt, L_cmp_gt]); all_goals (first | rfl | ((by_cases hP : ((x0 = 43) ∨ (x0 = 51))) <;> (first | rw [if_pos hP] | rw [if_neg hP]) <;> (try simp only [jlt, jix, jdv, jrd, Option.bind_some]) <;> (repeat' split) <;> first | rfl | (exfalso; omega) | (simp_all; done) | (simp_all; omega)) | grind (splits := 40) [jlt, jix, jdv, jrd]))
set_option maxHeartbeats 20000 in
theorem e_X40_isSkip (s : jS) (x0 : Int) : m_X40_isSkip s x0 = some (if ¬ (x0 < 0) ∧ (¬ (62 < x0) ∧ ((L_rem x0 2) = 0)) then 1 else 0) := by
  rw [em_X40_isSkip]; unfold dm_X40_isSkip
  all_goals first | rfl | ((try simp (disch := grind) only [Option.bind_some, jlet, Wz_0, Wz_1, Wz_if, L_cmp_0, L_cmp_lt, L_cmp_gt]); all_goals (first | rfl | ((by_cases hP : (¬ (x0 < 0) ∧ (¬ (62 < x0) ∧ ((L_rem x0 2) = 0)))) <;> (first | rw [if_pos hP] | rw [if_neg hP]) <;> (try simp only [jlt, jix, jdv, jrd, Option.bind_some]) <;> (repeat' split) <;> first | rfl | (exfalso; omega) | (simp_all; done) | (simp_all; omega)) | grind (splits := 40) [jlt, jix, jdv, jrd]))
def v_X40_widthOf (x0 x1 : Int) : Int := if x0 = 43 then x1 else if x0 = 51 then 0 else if x0 = 33 then 1 else if x0 = 37 then 1 else if x0 = 34 then 2 else if x0 = 38 then 2 else if x0 = 44 then 2 else if x0 = 45 then 2 else if x0 = 19 then 8 else 4
set_option maxHeartbeats 20000 in
theorem e_X40_widthOf (s : jS) (x0 x1 : Int) : m_X40_widthOf s x0 x1 = some (v_X40_widthOf x0 x1) := by
  rw [em_X40_widthOf]; unfold dm_X40_widthOf
  unfold v_X40_widthOf
  repeat' (first | refine jite (fun _ => ?_) (fun _ => ?_) | rw [jz] | rw [Option.bind_some])
  all_goals first | rfl | ((try simp (disch := grind) only [Option.bind_some, jlet, Wz_0, Wz_1, Wz_if, L_cmp_0, L_cmp_lt, L_cmp_gt]); all_goals (first | rfl | (simp only [v_X40_widthOf, apply_ite some]; done) | ((try simp only [jlt, jix, jdv, jrd, Option.bind_some]); ((repeat' split) <;> first | rfl | omega | (simp_all; done) | (simp_all; omega)); done) | grind (splits := 40) [jlt, jix, jdv, jrd, v_X40_widthOf]))
set_option maxHeartbeats 20000 in
theorem e_X40_isShort (s : jS) (x0 : Int) : m_X40_isShort s x0 = some (if ¬ ((I_and x0 3) = 3) then 1 else 0) := by
  rw [em_X40_isShort]; unfold dm_X40_isShort
  all_goals first | rfl | ((try simp (disch := grind) only [Option.bind_some, jlet, Wz_0, Wz_1, Wz_if, L_cmp_0, L_cmp_lt, L_cmp_gt]); all_goals (first | rfl | ((by_cases hP : (¬ ((I_and x0 3) = 3))) <;> (first | rw [if_pos hP] | rw [if_neg hP]) <;> (try simp only [jlt, jix, jdv, jrd, Option.bind_some]) <;> (repeat' split) <;> first | rfl | (exfalso; omega) | (simp_all; done) | (simp_all; omega)) | grind (splits := 40) [jlt, jix, jdv, jrd]))
def v_X40_section (s : jS) (x0 x1 x2 : Int) : Int := if x1 < 0 then (-1) else if 3 < x1 then (-1) else if x2 = 0 then (jf s 1000 (x0 + 2) (W32 (4 + x1))) else if x2 = 1 then (jf s 1000 (x0 + 3) (W32 (4 + x1))) else (-1)
set_option maxHeartbeats 20000 in
theorem e_X40_section (s : jS) (x0 x1 x2 : Int) (h0 : ¬ (x1 < 0) → ¬ (3 < x1) → x2 = 0 → (0 ≤ (W32 (4 + x1)) ∧ (W32 (4 + x1)) < 8)) (h1 : ¬ (x1 < 0) → ¬ (3 < x1) → ¬ (x2 = 0) → x2 = 1 → (0 ≤ (W32 (4 + x1)) ∧ (W32 (4 + x1)) < 8)) : m_X40_section s x0 x1 x2 = some (v_X40_section s x0 x1 x2) := by
  rw [em_X40_section]; unfold dm_X40_section
  unfold v_X40_section
  repeat' (first | refine jite (fun _ => ?_) (fun _ => ?_) | rw [jz] | rw [Option.bind_some])
  all_goals first | rfl | ((try simp (disch := grind) only [Option.bind_some, jlet, Wz_0, Wz_1, Wz_if, L_cmp_0, L_cmp_lt, L_cmp_gt]); all_goals (first | rfl | (simp only [v_X40_section, apply_ite some]; done) | ((try simp only [jlt, jix, jdv, jrd, Option.bind_some]); ((repeat' split) <;> first | rfl | omega | (simp_all; done) | (simp_all; omega)); done) | grind (splits := 40) [jlt, jix, jdv, jrd, v_X40_section]))
set_option maxHeartbeats 20000 in
theorem e_X40_startAt (s : jS) (x0 x1 : Int) (h0 : ¬ (x1 < 0) → x1 < (jf s 1000 (x0 + 5) 1) → (0 ≤ (W32 (1024 + x1)) ∧ (W32 (1024 + x1)) < 2048)) : m_X40_startAt s x0 x1 = some (if x1 < 0 then (-1) else if x1 < (jf s 1000 (x0 + 5) 1) then (jf s 1000 (x0 + 4) (W32 (1024 + x1))) else (-1)) := by
  rw [em_X40_startAt]; unfold dm_X40_startAt
  repeat' (first | refine jite (fun _ => ?_) (fun _ => ?_) | rw [jz] | rw [Option.bind_some])
  all_goals first | rfl | ((try simp (disch := grind) only [Option.bind_some, jlet, Wz_0, Wz_1, Wz_if, L_cmp_0, L_cmp_lt, L_cmp_gt]); all_goals (first | rfl | (simp only [apply_ite some]; done) | ((try simp only [jlt, jix, jdv, jrd, Option.bind_some]); ((repeat' split) <;> first | rfl | omega | (simp_all; done) | (simp_all; omega)); done) | grind (splits := 40) [jlt, jix, jdv, jrd]))
def v_X40_relocationAt (s : jS) (x0 x1 x2 : Int) : Int := if x1 < 0 then (-1) else if x1 < (jf s 1000 (x0 + 19) 1) then if x2 = 0 then (jf s 1000 (x0 + 14) (W32 (300 + x1))) else if x2 = 1 then (jf s 1000 (x0 + 15) (W32 (300 + x1))) else if x2 = 2 then (jf s 1000 (x0 + 16) (W32 (300 + x1))) else if x2 = 3 then (jf s 1000 (x0 + 17) (W32 (300 + x1))) else if x2 = 4 then (jf s 1000 (x0 + 18) (W32 (300 + x1))) else (-1) else (-1)
set_option maxHeartbeats 20000 in
theorem e_X40_relocationAt (s : jS) (x0 x1 x2 : Int) (h0 : ¬ (x1 < 0) → x1 < (jf s 1000 (x0 + 19) 1) → x2 = 0 → (0 ≤ (W32 (300 + x1)) ∧ (W32 (300 + x1)) < 600)) (h1 : ¬ (x1 < 0) → x1 < (jf s 1000 (x0 + 19) 1) → ¬ (x2 = 0) → x2 = 1 → (0 ≤ (W32 (300 + x1)) ∧ (W32 (300 + x1)) < 600)) (h2 : ¬ (x1 < 0) → x1 < (jf s 1000 (x0 + 19) 1) → ¬ (x2 = 0) → ¬ (x2 = 1) → x2 = 2 → (0 ≤ (W32 (300 + x1)) ∧ (W32 (300 + x1)) < 600)) (h3 : ¬ (x1 < 0) → x1 < (jf s 1000 (x0 + 19) 1) → ¬ (x2 = 0) → ¬ (x2 = 1) → ¬ (x2 = 2) → x2 = 3 → (0 ≤ (W32 (300 + x1)) ∧ (W32 (300 + x1)) < 600)) (h4 : ¬ (x1 < 0) → x1 < (jf s 1000 (x0 + 19) 1) → ¬ (x2 = 0) → ¬ (x2 = 1) → ¬ (x2 = 2) → ¬ (x2 = 3) → x2 = 4 → (0 ≤ (W32 (300 + x1)) ∧ (W32 (300 + x1)) < 600)) : m_X40_relocationAt s x0 x1 x2 = some (v_X40_relocationAt s x0 x1 x2) := by
  rw [em_X40_relocationAt]; unfold dm_X40_relocationAt
  unfold v_X40_relocationAt
  repeat' (first | refine jite (fun _ => ?_) (fun _ => ?_) | rw [jz] | rw [Option.bind_some])
  all_goals first | rfl | ((try simp (disch := grind) only [Option.bind_some, jlet, Wz_0, Wz_1, Wz_if, L_cmp_0, L_cmp_lt, L_cmp_gt]); all_goals (first | rfl | (simp only [v_X40_relocationAt, apply_ite some]; done) | ((try simp only [jlt, jix, jdv, jrd, Option.bind_some]); ((repeat' split) <;> first | rfl | omega | (simp_all; done) | (simp_all; omega)); done) | grind (splits := 40) [jlt, jix, jdv, jrd, v_X40_relocationAt]))
set_option maxHeartbeats 20000 in
theorem e_X40_place (s : jS) (x0 : Int) : m_X40_place s x0 = some ((jf s 44 x0 23)) := by
  rw [em_X40_place]; unfold dm_X40_place
  repeat' (first | refine jite (fun _ => ?_) (fun _ => ?_) | rw [jz] | rw [Option.bind_some])
  all_goals first | rfl | ((try simp (disch := grind) only [Option.bind_some, jlet, Wz_0, Wz_1, Wz_if, L_cmp_0, L_cmp_lt, L_cmp_gt]); all_goals (first | rfl | (simp only [apply_ite some]; done) | ((try simp only [jlt, jix, jdv, jrd, Option.bind_some]); ((repeat' split) <;> first | rfl | omega | (simp_all; done) | (simp_all; omega)); done) | grind (splits := 40) [jlt, jix, jdv, jrd]))
set_option maxHeartbeats 20000 in
theorem e_X40_roundUp (s : jS) (x0 x1 : Int) (h0 : (¬ x1 = 0)) : m_X40_roundUp s x0 x1 = some ((W32 ((I_div (W32 ((W32 (x0 + x1)) - 1)) x1) * x1))) := by
  rw [em_X40_roundUp]; unfold dm_X40_roundUp
  repeat' (first | refine jite (fun _ => ?_) (fun _ => ?_) | rw [jz] | rw [Option.bind_some])
  all_goals first | rfl | ((try simp (disch := grind) only [Option.bind_some, jlet, Wz_0, Wz_1, Wz_if, L_cmp_0, L_cmp_lt, L_cmp_gt]); all_goals (first | rfl | (simp only [apply_ite some]; done) | ((try simp only [jlt, jix, jdv, jrd, Option.bind_some]); ((repeat' split) <;> first | rfl | omega | (simp_all; done) | (simp_all; omega)); done) | grind (splits := 40) [jlt, jix, jdv, jrd]))
set_option maxHeartbeats 20000 in
theorem e_X41_within (s : jS) (x0 x1 x2 : Int) : m_X41_within s x0 x1 x2 = some (if ¬ (x0 < x1) ∧ (¬ (x2 < x0)) then 1 else 0) := by
  rw [em_X41_within]; unfold dm_X41_within
  all_goals first | rfl | ((try simp (disch := grind) only [Option.bind_some, jlet, Wz_0, Wz_1, Wz_if, L_cmp_0, L_cmp_lt, L_cmp_gt]); all_goals (first | rfl | ((by_cases hP : (¬ (x0 < x1) ∧ (¬ (x2 < x0)))) <;> (first | rw [if_pos hP] | rw [if_neg hP]) <;> (try simp only [jlt, jix, jdv, jrd, Option.bind_some]) <;> (repeat' split) <;> first | rfl | (exfalso; omega) | (simp_all; done) | (simp_all; omega)) | grind (splits := 40) [jlt, jix, jdv, jrd]))
set_option maxHeartbeats 20000 in
theorem e_X41_isPart (s : jS) (x0 x1 : Int) : m_X41_isPart s x0 x1 = some (if ¬ (x1 < 0) ∧ (¬ ((W32 ((jf s 45 x0 4) - 1)) < x1)) then 1 else 0) := by
  rw [em_X41_isPart]; unfold dm_X41_isPart
  all_goals first | rfl | ((try simp (disch := grind) only [e_X41_within, Option.bind_some, jlet, Wz_0, Wz_1, Wz_if, L_cmp_0, L_cmp_lt, L_cmp_gt]); all_goals (first | rfl | ((by_cases hP : (¬ (x1 < 0) ∧ (¬ ((W32 ((jf s 45 x0 4) - 1)) < x1)))) <;> (first | rw [if_pos hP] | rw [if_neg hP]) <;> (try simp only [jlt, jix, jdv, jrd, Option.bind_some]) <;> (repeat' split) <;> first | rfl | (exfalso; omega) | (simp_all; done) | (simp_all; omega)) | grind (splits := 40) [jlt, jix, jdv, jrd]))
set_option maxHeartbeats 20000 in
theorem e_X41_isLabel (s : jS) (x0 x1 : Int) : m_X41_isLabel s x0 x1 = some (if ¬ (x1 < 0) ∧ (¬ ((W32 ((jf s 45 x0 25) - 1)) < x1)) then 1 else 0) := by
  rw [em_X41_isLabel]; unfold dm_X41_isLabel
  all_goals first | rfl | ((try simp (disch := grind) only [e_X41_within, Option.bind_some, jlet, Wz_0, Wz_1, Wz_if, L_cmp_0, L_cmp_lt, L_cmp_gt]); all_goals (first | rfl | ((by_cases hP : (¬ (x1 < 0) ∧ (¬ ((W32 ((jf s 45 x0 25) - 1)) < x1)))) <;> (first | rw [if_pos hP] | rw [if_neg hP]) <;> (try simp only [jlt, jix, jdv, jrd, Option.bind_some]) <;> (repeat' split) <;> first | rfl | (exfalso; omega) | (simp_all; done) | (simp_all; omega)) | grind (splits := 40) [jlt, jix, jdv, jrd]))
set_option maxHeartbeats 20000 in
theorem e_X41_greatest (s : jS) (x0 : Int) : m_X41_greatest s x0 = some (if x0 = 1 then 8 else 4) := by
  rw [em_X41_greatest]; unfold dm_X41_greatest
  repeat' (first | refine jite (fun _ => ?_) (fun _ => ?_) | rw [jz] | rw [Option.bind_some])
  all_goals first | rfl | ((try simp (disch := grind) only [Option.bind_some, jlet, Wz_0, Wz_1, Wz_if, L_cmp_0, L_cmp_lt, L_cmp_gt]); all_goals (first | rfl | (simp only [apply_ite some]; done) | ((try simp only [jlt, jix, jdv, jrd, Option.bind_some]); ((repeat' split) <;> first | rfl | omega | (simp_all; done) | (simp_all; omega)); done) | grind (splits := 40) [jlt, jix, jdv, jrd]))
set_option maxHeartbeats 20000 in
theorem e_X41_isPiece (s : jS) (x0 x1 : Int) : m_X41_isPiece s x0 x1 = some (if ¬ (x1 < 0) ∧ (¬ ((W32 ((jf s 45 x0 12) - 1)) < x1)) then 1 else 0) := by
  rw [em_X41_isPiece]; unfold dm_X41_isPiece
  all_goals first | rfl | ((try simp (disch := grind) only [e_X41_within, Option.bind_some, jlet, Wz_0, Wz_1, Wz_if, L_cmp_0, L_cmp_lt, L_cmp_gt]); all_goals (first | rfl | ((by_cases hP : (¬ (x1 < 0) ∧ (¬ ((W32 ((jf s 45 x0 12) - 1)) < x1)))) <;> (first | rw [if_pos hP] | rw [if_neg hP]) <;> (try simp only [jlt, jix, jdv, jrd, Option.bind_some]) <;> (repeat' split) <;> first | rfl | (exfalso; omega) | (simp_all; done) | (simp_all; omega)) | grind (splits := 40) [jlt, jix, jdv, jrd]))
set_option maxHeartbeats 20000 in
theorem e_X41_roundUp (s : jS) (x0 x1 : Int) (h0 : (¬ x1 = 0)) : m_X41_roundUp s x0 x1 = some ((W32 ((I_div (W32 ((W32 (x0 + x1)) - 1)) x1) * x1))) := by
  rw [em_X41_roundUp]; unfold dm_X41_roundUp
  repeat' (first | refine jite (fun _ => ?_) (fun _ => ?_) | rw [jz] | rw [Option.bind_some])
  all_goals first | rfl | ((try simp (disch := grind) only [Option.bind_some, jlet, Wz_0, Wz_1, Wz_if, L_cmp_0, L_cmp_lt, L_cmp_gt]); all_goals (first | rfl | (simp only [apply_ite some]; done) | ((try simp only [jlt, jix, jdv, jrd, Option.bind_some]); ((repeat' split) <;> first | rfl | omega | (simp_all; done) | (simp_all; omega)); done) | grind (splits := 40) [jlt, jix, jdv, jrd]))
set_option maxHeartbeats 20000 in
theorem e_X41_shrinks (s : jS) (x0 x1 : Int) (h0 : (0 ≤ x1 ∧ x1 < 256)) (h1 : ¬ ((jf s 1000 (x0 + 11) x1) < 1) → (0 ≤ x1 ∧ x1 < 256)) : m_X41_shrinks s x0 x1 = some (if ¬ ((jf s 1000 (x0 + 11) x1) < 1) ∧ ((jf s 1000 (x0 + 11) x1) < 4) then 1 else 0) := by
  rw [em_X41_shrinks]; unfold dm_X41_shrinks
  all_goals first | rfl | ((try simp (disch := grind) only [Option.bind_some, jlet, Wz_0, Wz_1, Wz_if, L_cmp_0, L_cmp_lt, L_cmp_gt]); all_goals (first | rfl | ((by_cases hP : (¬ ((jf s 1000 (x0 + 11) x1) < 1) ∧ ((jf s 1000 (x0 + 11) x1) < 4))) <;> (first | rw [if_pos hP] | rw [if_neg hP]) <;> (try simp only [jlt, jix, jdv, jrd, Option.bind_some]) <;> (repeat' split) <;> first | rfl | (exfalso; omega) | (simp_all; done) | (simp_all; omega)) | grind (splits := 40) [jlt, jix, jdv, jrd]))
def v_X41_valueOf (s : jS) (x0 x1 : Int) : Int := if (jf s 1000 (x0 + 11) (jf s 1000 (x0 + 23) x1)) = 0 then (W32 ((jf s 1000 (x0 + 20) (jf s 1000 (x0 + 23) x1)) + (jf s 1000 (x0 + 24) x1))) else if (jf s 1000 (x0 + 24) x1) = 0 then (W32 ((jf s 1000 (x0 + 20) (jf s 1000 (x0 + 23) x1)) + (jf s 1000 (x0 + 24) x1))) else (W32 ((jf s 1000 (x0 + 20) (jf s 1000 (x0 + 23) x1)) + (jf s 1000 (x0 + 13) (jf s 1000 (x0 + 23) x1))))
set_option maxHeartbeats 20000 in
theorem e_X41_valueOf (s : jS) (x0 x1 : Int) (h0 : (0 ≤ x1 ∧ x1 < 64)) (h1 : (0 ≤ (jf s 1000 (x0 + 23) x1) ∧ (jf s 1000 (x0 + 23) x1) < 256)) (h2 : (jf s 1000 (x0 + 11) (jf s 1000 (x0 + 23) x1)) = 0 → (0 ≤ (jf s 1000 (x0 + 23) x1) ∧ (jf s 1000 (x0 + 23) x1) < 256)) (h3 : (jf s 1000 (x0 + 11) (jf s 1000 (x0 + 23) x1)) = 0 → (0 ≤ x1 ∧ x1 < 64)) (h4 : ¬ ((jf s 1000 (x0 + 11) (jf s 1000 (x0 + 23) x1)) = 0) → (0 ≤ x1 ∧ x1 < 64)) (h5 : ¬ ((jf s 1000 (x0 + 11) (jf s 1000 (x0 + 23) x1)) = 0) → (jf s 1000 (x0 + 24) x1) = 0 → (0 ≤ (jf s 1000 (x0 + 23) x1) ∧ (jf s 1000 (x0 + 23) x1) < 256)) (h6 : ¬ ((jf s 1000 (x0 + 11) (jf s 1000 (x0 + 23) x1)) = 0) → (jf s 1000 (x0 + 24) x1) = 0 → (0 ≤ x1 ∧ x1 < 64)) (h7 : ¬ ((jf s 1000 (x0 + 11) (jf s 1000 (x0 + 23) x1)) = 0) → ¬ ((jf s 1000 (x0 + 24) x1) = 0) → (0 ≤ (jf s 1000 (x0 + 23) x1) ∧ (jf s 1000 (x0 + 23) x1) < 256)) : m_X41_valueOf s x0 x1 = some (v_X41_valueOf s x0 x1) := by
  rw [em_X41_valueOf]; unfold dm_X41_valueOf
  unfold v_X41_valueOf
  repeat' (first | refine jite (fun _ => ?_) (fun _ => ?_) | rw [jz] | rw [Option.bind_some] | (rw [eu_X41_valueOf_25]; unfold du_X41_valueOf_25))
  all_goals first | rfl | ((try simp (disch := grind) only [eu_X41_valueOf_25, du_X41_valueOf_25, Option.bind_some, jlet, Wz_0, Wz_1, Wz_if, L_cmp_0, L_cmp_lt, L_cmp_gt]); all_goals (first | rfl | (simp only [v_X41_valueOf, apply_ite some]; done) | ((try simp only [jlt, jix, jdv, jrd, Option.bind_some]); ((repeat' split) <;> first | rfl | omega | (simp_all; done) | (simp_all; omega)); done) | grind (splits := 40) [jlt, jix, jdv, jrd, v_X41_valueOf]))
set_option maxHeartbeats 20000 in
theorem e_X41_isNear (s : jS) (x0 : Int) : m_X41_isNear s x0 = some (if ¬ (x0 < (-2048)) ∧ (¬ (2047 < x0)) then 1 else 0) := by
  rw [em_X41_isNear]; unfold dm_X41_isNear
  all_goals first | rfl | ((try simp (disch := grind) only [Option.bind_some, jlet, Wz_0, Wz_1, Wz_if, L_cmp_0, L_cmp_lt, L_cmp_gt]); all_goals (first | rfl | ((by_cases hP : (¬ (x0 < (-2048)) ∧ (¬ (2047 < x0)))) <;> (first | rw [if_pos hP] | rw [if_neg hP]) <;> (try simp only [jlt, jix, jdv, jrd, Option.bind_some]) <;> (repeat' split) <;> first | rfl | (exfalso; omega) | (simp_all; done) | (simp_all; omega)) | grind (splits := 40) [jlt, jix, jdv, jrd]))
set_option maxHeartbeats 20000 in
theorem e_X42_isSegment (s : jS) (x0 : Int) : m_X42_isSegment s x0 = some (if ¬ (x0 < 0) ∧ (x0 < 3) then 1 else 0) := by
  rw [em_X42_isSegment]; unfold dm_X42_isSegment
  all_goals first | rfl | ((try simp (disch := grind) only [Option.bind_some, jlet, Wz_0, Wz_1, Wz_if, L_cmp_0, L_cmp_lt, L_cmp_gt]); all_goals (first | rfl | ((by_cases hP : (¬ (x0 < 0) ∧ (x0 < 3))) <;> (first | rw [if_pos hP] | rw [if_neg hP]) <;> (try simp only [jlt, jix, jdv, jrd, Option.bind_some]) <;> (repeat' split) <;> first | rfl | (exfalso; omega) | (simp_all; done) | (simp_all; omega)) | grind (splits := 40) [jlt, jix, jdv, jrd]))
set_option maxHeartbeats 20000 in
theorem e_X42_endOf (s : jS) (x0 x1 : Int) (h0 : (0 ≤ x1 ∧ x1 < 6)) : m_X42_endOf s x0 x1 = some ((W32 ((W32 ((jf s 1000 (x0 + 2) x1) + (jf s 1000 (x0 + 4) x1))) + (jf s 1000 (x0 + 3) x1)))) := by
  rw [em_X42_endOf]; unfold dm_X42_endOf
  repeat' (first | refine jite (fun _ => ?_) (fun _ => ?_) | rw [jz] | rw [Option.bind_some])
  all_goals first | rfl | ((try simp (disch := grind) only [Option.bind_some, jlet, Wz_0, Wz_1, Wz_if, L_cmp_0, L_cmp_lt, L_cmp_gt]); all_goals (first | rfl | (simp only [apply_ite some]; done) | ((try simp only [jlt, jix, jdv, jrd, Option.bind_some]); ((repeat' split) <;> first | rfl | omega | (simp_all; done) | (simp_all; omega)); done) | grind (splits := 40) [jlt, jix, jdv, jrd]))
set_option maxHeartbeats 20000 in
theorem e_X42_isShort (s : jS) (x0 : Int) : m_X42_isShort s x0 = some (if ¬ ((I_and x0 3) = 3) then 1 else 0) := by
  rw [em_X42_isShort]; unfold dm_X42_isShort
  all_goals first | rfl | ((try simp (disch := grind) only [Option.bind_some, jlet, Wz_0, Wz_1, Wz_if, L_cmp_0, L_cmp_lt, L_cmp_gt]); all_goals (first | rfl | ((by_cases hP : (¬ ((I_and x0 3) = 3))) <;> (first | rw [if_pos hP] | rw [if_neg hP]) <;> (try simp only [jlt, jix, jdv, jrd, Option.bind_some]) <;> (repeat' split) <;> first | rfl | (exfalso; omega) | (simp_all; done) | (simp_all; omega)) | grind (splits := 40) [jlt, jix, jdv, jrd]))
set_option maxHeartbeats 20000 in
theorem e_X42_upTo4 (s : jS) (x0 : Int) : m_X42_upTo4 s x0 = some ((W32 ((I_div (W32 (x0 + 3)) 4) * 4))) := by
  rw [em_X42_upTo4]; unfold dm_X42_upTo4
  repeat' (first | refine jite (fun _ => ?_) (fun _ => ?_) | rw [jz] | rw [Option.bind_some])
  all_goals first | rfl | ((try simp (disch := grind) only [Option.bind_some, jlet, Wz_0, Wz_1, Wz_if, L_cmp_0, L_cmp_lt, L_cmp_gt]); all_goals (first | rfl | (simp only [apply_ite some]; done) | ((try simp only [jlt, jix, jdv, jrd, Option.bind_some]); ((repeat' split) <;> first | rfl | omega | (simp_all; done) | (simp_all; omega)); done) | grind (splits := 40) [jlt, jix, jdv, jrd]))
set_option maxHeartbeats 20000 in
theorem e_X42_markBytes (s : jS) (x0 x1 : Int) (h0 : (0 ≤ (W32 (3 * x1)) ∧ (W32 (3 * x1)) < 6)) (h1 : ¬ ((jf s 1002 (x0 + 1) (W32 (3 * x1))) = 0) → (0 ≤ (W32 (3 * x1)) ∧ (W32 (3 * x1)) < 6)) : m_X42_markBytes s x0 x1 = some (if (jf s 1002 (x0 + 1) (W32 (3 * x1))) = 0 then 0 else (I_div (W32 ((jf s 1000 (x0 + 4) (W32 (3 * x1))) + 15)) 16)) := by
  rw [em_X42_markBytes]; unfold dm_X42_markBytes
  repeat' (first | refine jite (fun _ => ?_) (fun _ => ?_) | rw [jz] | rw [Option.bind_some])
  all_goals first | rfl | ((try simp (disch := grind) only [Option.bind_some, jlet, Wz_0, Wz_1, Wz_if, L_cmp_0, L_cmp_lt, L_cmp_gt]); all_goals (first | rfl | (simp only [apply_ite some]; done) | ((try simp only [jlt, jix, jdv, jrd, Option.bind_some]); ((repeat' split) <;> first | rfl | omega | (simp_all; done) | (simp_all; omega)); done) | grind (splits := 40) [jlt, jix, jdv, jrd]))
set_option maxHeartbeats 20000 in
theorem e_X42_rightsOf (s : jS) (x0 : Int) : m_X42_rightsOf s x0 = some (if x0 = 0 then 5 else if x0 = 1 then 4 else 6) := by
  rw [em_X42_rightsOf]; unfold dm_X42_rightsOf
  repeat' (first | refine jite (fun _ => ?_) (fun _ => ?_) | rw [jz] | rw [Option.bind_some])
  all_goals first | rfl | ((try simp (disch := grind) only [Option.bind_some, jlet, Wz_0, Wz_1, Wz_if, L_cmp_0, L_cmp_lt, L_cmp_gt]); all_goals (first | rfl | (simp only [apply_ite some]; done) | ((try simp only [jlt, jix, jdv, jrd, Option.bind_some]); ((repeat' split) <;> first | rfl | omega | (simp_all; done) | (simp_all; omega)); done) | grind (splits := 40) [jlt, jix, jdv, jrd]))
set_option maxHeartbeats 20000 in
theorem e_X42_read2 (s : jS) (x0 x1 : Int) (h0 : (0 ≤ x1 ∧ x1 < 16384)) (h1 : (0 ≤ (W32 (x1 + 1)) ∧ (W32 (x1 + 1)) < 16384)) : m_X42_read2 s x0 x1 = some ((W32 ((jf s 1000 (x0 + 9) x1) + (W32 (256 * (jf s 1000 (x0 + 9) (W32 (x1 + 1)))))))) := by
  rw [em_X42_read2]; unfold dm_X42_read2
  repeat' (first | refine jite (fun _ => ?_) (fun _ => ?_) | rw [jz] | rw [Option.bind_some])
  all_goals first | rfl | ((try simp (disch := grind) only [Option.bind_some, jlet, Wz_0, Wz_1, Wz_if, L_cmp_0, L_cmp_lt, L_cmp_gt]); all_goals (first | rfl | (simp only [apply_ite some]; done) | ((try simp only [jlt, jix, jdv, jrd, Option.bind_some]); ((repeat' split) <;> first | rfl | omega | (simp_all; done) | (simp_all; omega)); done) | grind (splits := 40) [jlt, jix, jdv, jrd]))
def v_X42_read4 (s : jS) (x0 x1 : Int) : Int := (W64 ((W32 ((jf s 1000 (x0 + 9) x1) + (W32 (256 * (jf s 1000 (x0 + 9) (W32 (x1 + 1))))))) + (W64 (65536 * (W32 ((jf s 1000 (x0 + 9) (W32 (x1 + 2))) + (W32 (256 * (jf s 1000 (x0 + 9) (W32 ((W32 (x1 + 2)) + 1)))))))))))
set_option maxHeartbeats 20000 in
theorem e_X42_read4 (s : jS) (x0 x1 : Int) (h0 : (0 ≤ x1 ∧ x1 < 16384)) (h1 : (0 ≤ (W32 (x1 + 1)) ∧ (W32 (x1 + 1)) < 16384)) (h2 : (0 ≤ (W32 (x1 + 2)) ∧ (W32 (x1 + 2)) < 16384)) (h3 : (0 ≤ (W32 ((W32 (x1 + 2)) + 1)) ∧ (W32 ((W32 (x1 + 2)) + 1)) < 16384)) : m_X42_read4 s x0 x1 = some (v_X42_read4 s x0 x1) := by
  rw [em_X42_read4]; unfold dm_X42_read4
  unfold v_X42_read4
  repeat' (first | refine jite (fun _ => ?_) (fun _ => ?_) | rw [jz] | rw [Option.bind_some])
  all_goals first | rfl | ((try simp (disch := grind) only [e_X42_read2, Option.bind_some, jlet, Wz_0, Wz_1, Wz_if, L_cmp_0, L_cmp_lt, L_cmp_gt]); all_goals (first | rfl | (simp only [v_X42_read4, apply_ite some]; done) | ((try simp only [jlt, jix, jdv, jrd, Option.bind_some]); ((repeat' split) <;> first | rfl | omega | (simp_all; done) | (simp_all; omega)); done) | grind (splits := 40) [jlt, jix, jdv, jrd, v_X42_read4]))
set_option maxHeartbeats 20000 in
theorem e_X42_spot (s : jS) (x0 x1 x2 : Int) : m_X42_spot s x0 x1 x2 = some ((W32 ((W32 ((jf s 46 x0 11) + (W32 (32 * x1)))) + (W32 (4 * x2))))) := by
  rw [em_X42_spot]; unfold dm_X42_spot
  repeat' (first | refine jite (fun _ => ?_) (fun _ => ?_) | rw [jz] | rw [Option.bind_some])
  all_goals first | rfl | ((try simp (disch := grind) only [Option.bind_some, jlet, Wz_0, Wz_1, Wz_if, L_cmp_0, L_cmp_lt, L_cmp_gt]); all_goals (first | rfl | (simp only [apply_ite some]; done) | ((try simp only [jlt, jix, jdv, jrd, Option.bind_some]); ((repeat' split) <;> first | rfl | omega | (simp_all; done) | (simp_all; omega)); done) | grind (splits := 40) [jlt, jix, jdv, jrd]))
set_option maxHeartbeats 20000 in
theorem e_X42_nameByte (s : jS) (x0 : Int) : m_X42_nameByte s x0 = some (if x0 = 0 then 77 else if x0 = 1 then 97 else if x0 = 2 then 114 else if x0 = 3 then 107 else if x0 = 4 then 115 else 0) := by
  rw [em_X42_nameByte]; unfold dm_X42_nameByte
  repeat' (first | refine jite (fun _ => ?_) (fun _ => ?_) | rw [jz] | rw [Option.bind_some])
  all_goals first | rfl | ((try simp (disch := grind) only [Option.bind_some, jlet, Wz_0, Wz_1, Wz_if, L_cmp_0, L_cmp_lt, L_cmp_gt]); all_goals (first | rfl | (simp only [apply_ite some]; done) | ((try simp only [jlt, jix, jdv, jrd, Option.bind_some]); ((repeat' split) <;> first | rfl | omega | (simp_all; done) | (simp_all; omega)); done) | grind (splits := 40) [jlt, jix, jdv, jrd]))
set_option maxHeartbeats 20000 in
theorem e_X42_place (s : jS) (x0 : Int) : m_X42_place s x0 = some ((jf s 46 x0 10)) := by
  rw [em_X42_place]; unfold dm_X42_place
  repeat' (first | refine jite (fun _ => ?_) (fun _ => ?_) | rw [jz] | rw [Option.bind_some])
  all_goals first | rfl | ((try simp (disch := grind) only [Option.bind_some, jlet, Wz_0, Wz_1, Wz_if, L_cmp_0, L_cmp_lt, L_cmp_gt]); all_goals (first | rfl | (simp only [apply_ite some]; done) | ((try simp only [jlt, jix, jdv, jrd, Option.bind_some]); ((repeat' split) <;> first | rfl | omega | (simp_all; done) | (simp_all; omega)); done) | grind (splits := 40) [jlt, jix, jdv, jrd]))
def v_X43_opcodeOf (x0 : Int) : Int := if x0 = 0 then 55 else if x0 = 1 then 23 else if x0 = 2 then 111 else if x0 = 3 then 103 else if x0 < 10 then 99 else if x0 < 15 then 3 else if x0 < 18 then 35 else if x0 < 27 then 19 else 51
set_option maxHeartbeats 20000 in
theorem e_X43_opcodeOf (s : jS) (x0 : Int) : m_X43_opcodeOf s x0 = some (v_X43_opcodeOf x0) := by
  rw [em_X43_opcodeOf]; unfold dm_X43_opcodeOf
  unfold v_X43_opcodeOf
  repeat' (first | refine jite (fun _ => ?_) (fun _ => ?_) | rw [jz] | rw [Option.bind_some])
  all_goals first | rfl | ((try simp (disch := grind) only [Option.bind_some, jlet, Wz_0, Wz_1, Wz_if, L_cmp_0, L_cmp_lt, L_cmp_gt]); all_goals (first | rfl | (simp only [v_X43_opcodeOf, apply_ite some]; done) | ((try simp only [jlt, jix, jdv, jrd, Option.bind_some]); ((repeat' split) <;> first | rfl | omega | (simp_all; done) | (simp_all; omega)); done) | grind (splits := 40) [jlt, jix, jdv, jrd, v_X43_opcodeOf]))
def v_X43_thirdOf (x0 : Int) : Int := if x0 = 5 then 1 else if x0 = 6 then 4 else if x0 = 7 then 5 else if x0 = 8 then 6 else if x0 = 9 then 7 else if x0 = 10 then 0 else if x0 = 11 then 1 else if x0 = 12 then 2 else if x0 = 13 then 4 else if x0 = 14 then 5 else if x0 = 15 then 0 else if x0 = 16 then 1 else if x0 = 17 then 2 else if x0 = 18 then 0 else if x0 = 19 then 2 else if x0 = 20 then 3 else if x0 = 21 then 4 else if x0 = 22 then 6 else if x0 = 23 then 7 else if x0 = 24 then 1 else if x0 = 25 then 5 else if x0 = 26 then 5 else if x0 = 27 then 0 else if x0 = 28 then 0 else if x0 = 29 then 1 else if x0 = 30 then 2 else if x0 = 31 then 3 else if x0 = 32 then 4 else if x0 = 33 then 5 else if x0 = 34 then 5 else if x0 = 35 then 6 else if x0 = 36 then 7 else if x0 = 37 then 0 else if x0 = 38 then 1 else if x0 = 39 then 2 else if x0 = 40 then 3 else if x0 = 41 then 4 else if x0 = 42 then 5 else if x0 = 43 then 6 else if x0 = 44 then 7 else 0
set_option maxHeartbeats 20000 in
theorem e_X43_thirdOf (s : jS) (x0 : Int) : m_X43_thirdOf s x0 = some (v_X43_thirdOf x0) := by
  rw [em_X43_thirdOf]; unfold dm_X43_thirdOf
  unfold v_X43_thirdOf
  repeat' (first | refine jite (fun _ => ?_) (fun _ => ?_) | rw [jz] | rw [Option.bind_some])
  all_goals first | rfl | ((try simp (disch := grind) only [Option.bind_some, jlet, Wz_0, Wz_1, Wz_if, L_cmp_0, L_cmp_lt, L_cmp_gt]); all_goals (first | rfl | (simp only [v_X43_thirdOf, apply_ite some]; done) | ((try simp only [jlt, jix, jdv, jrd, Option.bind_some]); ((repeat' split) <;> first | rfl | omega | (simp_all; done) | (simp_all; omega)); done) | grind (splits := 40) [jlt, jix, jdv, jrd, v_X43_thirdOf]))
set_option maxHeartbeats 20000 in
theorem e_X43_isBranch (s : jS) (x0 : Int) : m_X43_isBranch s x0 = some (if (3 < x0) ∧ (x0 < 10) then 1 else 0) := by
  rw [em_X43_isBranch]; unfold dm_X43_isBranch
  all_goals first | rfl | ((try simp (disch := grind) only [Option.bind_some, jlet, Wz_0, Wz_1, Wz_if, L_cmp_0, L_cmp_lt, L_cmp_gt]); all_goals (first | rfl | ((by_cases hP : ((3 < x0) ∧ (x0 < 10))) <;> (first | rw [if_pos hP] | rw [if_neg hP]) <;> (try simp only [jlt, jix, jdv, jrd, Option.bind_some]) <;> (repeat' split) <;> first | rfl | (exfalso; omega) | (simp_all; done) | (simp_all; omega)) | grind (splits := 40) [jlt, jix, jdv, jrd]))
set_option maxHeartbeats 20000 in
theorem e_X43_isStore (s : jS) (x0 : Int) : m_X43_isStore s x0 = some (if (14 < x0) ∧ (x0 < 18) then 1 else 0) := by
  rw [em_X43_isStore]; unfold dm_X43_isStore
  all_goals first | rfl | ((try simp (disch := grind) only [Option.bind_some, jlet, Wz_0, Wz_1, Wz_if, L_cmp_0, L_cmp_lt, L_cmp_gt]); all_goals (first | rfl | ((by_cases hP : ((14 < x0) ∧ (x0 < 18))) <;> (first | rw [if_pos hP] | rw [if_neg hP]) <;> (try simp only [jlt, jix, jdv, jrd, Option.bind_some]) <;> (repeat' split) <;> first | rfl | (exfalso; omega) | (simp_all; done) | (simp_all; omega)) | grind (splits := 40) [jlt, jix, jdv, jrd]))
set_option maxHeartbeats 20000 in
theorem e_X43_seventhOf (s : jS) (x0 : Int) : m_X43_seventhOf s x0 = some (if x0 = 26 then 32 else if x0 = 28 then 32 else if x0 = 34 then 32 else if 36 < x0 then 1 else 0) := by
  rw [em_X43_seventhOf]; unfold dm_X43_seventhOf
  repeat' (first | refine jite (fun _ => ?_) (fun _ => ?_) | rw [jz] | rw [Option.bind_some])
  all_goals first | rfl | ((try simp (disch := grind) only [Option.bind_some, jlet, Wz_0, Wz_1, Wz_if, L_cmp_0, L_cmp_lt, L_cmp_gt]); all_goals (first | rfl | (simp only [apply_ite some]; done) | ((try simp only [jlt, jix, jdv, jrd, Option.bind_some]); ((repeat' split) <;> first | rfl | omega | (simp_all; done) | (simp_all; omega)); done) | grind (splits := 40) [jlt, jix, jdv, jrd]))
set_option maxHeartbeats 20000 in
theorem e_X43_isShift (s : jS) (x0 : Int) : m_X43_isShift s x0 = some (if (23 < x0) ∧ (x0 < 27) then 1 else 0) := by
  rw [em_X43_isShift]; unfold dm_X43_isShift
  all_goals first | rfl | ((try simp (disch := grind) only [Option.bind_some, jlet, Wz_0, Wz_1, Wz_if, L_cmp_0, L_cmp_lt, L_cmp_gt]); all_goals (first | rfl | ((by_cases hP : ((23 < x0) ∧ (x0 < 27))) <;> (first | rw [if_pos hP] | rw [if_neg hP]) <;> (try simp only [jlt, jix, jdv, jrd, Option.bind_some]) <;> (repeat' split) <;> first | rfl | (exfalso; omega) | (simp_all; done) | (simp_all; omega)) | grind (splits := 40) [jlt, jix, jdv, jrd]))
set_option maxHeartbeats 20000 in
theorem e_X43_isEnd (s : jS) (x0 : Int) : m_X43_isEnd s x0 = some (if ¬ ((jf s 47 x0 17) = 0) ∧ (¬ ((jf s 47 x0 17) = 9)) then 1 else 0) := by
  rw [em_X43_isEnd]; unfold dm_X43_isEnd
  all_goals first | rfl | ((try simp (disch := grind) only [Option.bind_some, jlet, Wz_0, Wz_1, Wz_if, L_cmp_0, L_cmp_lt, L_cmp_gt]); all_goals (first | rfl | ((by_cases hP : (¬ ((jf s 47 x0 17) = 0) ∧ (¬ ((jf s 47 x0 17) = 9)))) <;> (first | rw [if_pos hP] | rw [if_neg hP]) <;> (try simp only [jlt, jix, jdv, jrd, Option.bind_some]) <;> (repeat' split) <;> first | rfl | (exfalso; omega) | (simp_all; done) | (simp_all; omega)) | grind (splits := 40) [jlt, jix, jdv, jrd]))
set_option maxHeartbeats 20000 in
theorem e_X43_bare (s : jS) (x0 : Int) : m_X43_bare s x0 = some ((L_and x0 4294967295)) := by
  rw [em_X43_bare]; unfold dm_X43_bare
  repeat' (first | refine jite (fun _ => ?_) (fun _ => ?_) | rw [jz] | rw [Option.bind_some])
  all_goals first | rfl | ((try simp (disch := grind) only [Option.bind_some, jlet, Wz_0, Wz_1, Wz_if, L_cmp_0, L_cmp_lt, L_cmp_gt]); all_goals (first | rfl | (simp only [apply_ite some]; done) | ((try simp only [jlt, jix, jdv, jrd, Option.bind_some]); ((repeat' split) <;> first | rfl | omega | (simp_all; done) | (simp_all; omega)); done) | grind (splits := 40) [jlt, jix, jdv, jrd]))
set_option maxHeartbeats 20000 in
theorem e_X43_isMarked (s : jS) (x0 x1 : Int) (h0 : ¬ (x1 < 0) → x1 < 131072 → (L_rem x1 2) = 0 → (0 ≤ (I_div (L2i x1) 2) ∧ (I_div (L2i x1) 2) < 65536)) : m_X43_isMarked s x0 x1 = some (if ¬ (x1 < 0) ∧ ((x1 < 131072) ∧ (((L_rem x1 2) = 0) ∧ (¬ ((jf s 1002 (x0 + 4) (I_div (L2i x1) 2)) = 0)))) then 1 else 0) := by
  rw [em_X43_isMarked]; unfold dm_X43_isMarked
  all_goals first | rfl | ((try simp (disch := grind) only [Option.bind_some, jlet, Wz_0, Wz_1, Wz_if, L_cmp_0, L_cmp_lt, L_cmp_gt]); all_goals (first | rfl | ((by_cases hP : (¬ (x1 < 0) ∧ ((x1 < 131072) ∧ (((L_rem x1 2) = 0) ∧ (¬ ((jf s 1002 (x0 + 4) (I_div (L2i x1) 2)) = 0)))))) <;> (first | rw [if_pos hP] | rw [if_neg hP]) <;> (try simp only [jlt, jix, jdv, jrd, Option.bind_some]) <;> (repeat' split) <;> first | rfl | (exfalso; omega) | (simp_all; done) | (simp_all; omega)) | grind (splits := 40) [jlt, jix, jdv, jrd]))
set_option maxHeartbeats 20000 in
theorem e_X43_isLong (s : jS) (x0 : Int) : m_X43_isLong s x0 = some (if (I_and x0 3) = 3 then 1 else 0) := by
  rw [em_X43_isLong]; unfold dm_X43_isLong
  all_goals first | rfl | ((try simp (disch := grind) only [Option.bind_some, jlet, Wz_0, Wz_1, Wz_if, L_cmp_0, L_cmp_lt, L_cmp_gt]); all_goals (first | rfl | ((by_cases hP : ((I_and x0 3) = 3)) <;> (first | rw [if_pos hP] | rw [if_neg hP]) <;> (try simp only [jlt, jix, jdv, jrd, Option.bind_some]) <;> (repeat' split) <;> first | rfl | (exfalso; omega) | (simp_all; done) | (simp_all; omega)) | grind (splits := 40) [jlt, jix, jdv, jrd]))
set_option maxHeartbeats 20000 in
theorem e_X43_bitsOf (s : jS) (x0 : Int) : m_X43_bitsOf s x0 = some (if x0 < 48 then 32 else 16) := by
  rw [em_X43_bitsOf]; unfold dm_X43_bitsOf
  repeat' (first | refine jite (fun _ => ?_) (fun _ => ?_) | rw [jz] | rw [Option.bind_some])
  all_goals first | rfl | ((try simp (disch := grind) only [Option.bind_some, jlet, Wz_0, Wz_1, Wz_if, L_cmp_0, L_cmp_lt, L_cmp_gt]); all_goals (first | rfl | (simp only [apply_ite some]; done) | ((try simp only [jlt, jix, jdv, jrd, Option.bind_some]); ((repeat' split) <;> first | rfl | omega | (simp_all; done) | (simp_all; omega)); done) | grind (splits := 40) [jlt, jix, jdv, jrd]))
def v_X43_signOf (x0 : Int) : Int := if x0 < 2 then (-1) else if (23 < x0) ∧ (x0 < 27) then (-1) else if x0 = 2 then 20 else if x0 < 48 then if (3 < x0) ∧ (x0 < 10) then 12 else 11 else if x0 = 52 then 5 else if x0 = 53 then 11 else if x0 = 54 then 5 else if x0 = 55 then 9 else if x0 = 56 then 5 else if x0 = 57 then (-1) else if x0 = 58 then (-1) else if x0 = 59 then 5 else if x0 = 60 then (-1) else if x0 = 61 then (-1) else if x0 = 62 then (-1) else if x0 = 63 then (-1) else if x0 = 64 then 11 else if x0 = 65 then 8 else if x0 = 66 then 8 else (-1)
set_option maxHeartbeats 20000 in
theorem e_X43_signOf (s : jS) (x0 : Int) : m_X43_signOf s x0 = some (v_X43_signOf x0) := by
  rw [em_X43_signOf]; unfold dm_X43_signOf
  unfold v_X43_signOf
  repeat' (first | refine jite (fun _ => ?_) (fun _ => ?_) | rw [jz] | rw [Option.bind_some] | rw [e_X43_isBranch] | rw [e_X43_isShift])
  all_goals first | rfl | ((try simp (disch := grind) only [e_X43_isBranch, e_X43_isShift, Option.bind_some, jlet, Wz_0, Wz_1, Wz_if, L_cmp_0, L_cmp_lt, L_cmp_gt]); all_goals (first | rfl | (simp only [v_X43_signOf, apply_ite some]; done) | ((try simp only [jlt, jix, jdv, jrd, Option.bind_some]); ((repeat' split) <;> first | rfl | omega | (simp_all; done) | (simp_all; omega)); done) | grind (splits := 40) [jlt, jix, jdv, jrd, v_X43_signOf]))
set_option maxHeartbeats 20000 in
theorem e_X43_isStep (s : jS) (x0 x2 x4 x6 : Int) (h0 : ¬ (x0 < x2) → ¬ (x4 < x0) → (¬ x6 = 0)) : m_X43_isStep s x0 x2 x4 x6 = some (if ¬ (x0 < x2) ∧ (¬ (x4 < x0) ∧ ((L_rem x0 x6) = 0)) then 1 else 0) := by
  rw [em_X43_isStep]; unfold dm_X43_isStep
  all_goals first | rfl | ((try simp (disch := grind) only [Option.bind_some, jlet, Wz_0, Wz_1, Wz_if, L_cmp_0, L_cmp_lt, L_cmp_gt]); all_goals (first | rfl | ((by_cases hP : (¬ (x0 < x2) ∧ (¬ (x4 < x0) ∧ ((L_rem x0 x6) = 0)))) <;> (first | rw [if_pos hP] | rw [if_neg hP]) <;> (try simp only [jlt, jix, jdv, jrd, Option.bind_some]) <;> (repeat' split) <;> first | rfl | (exfalso; omega) | (simp_all; done) | (simp_all; omega)) | grind (splits := 40) [jlt, jix, jdv, jrd]))
def v_X43_longKind (x0 : Int) : Int := if x0 = 48 then 18 else if x0 = 49 then 12 else if x0 = 50 then 17 else if x0 = 51 then 18 else if x0 = 52 then 18 else if x0 = 53 then 2 else if x0 = 54 then 18 else if x0 = 55 then 18 else if x0 = 56 then 0 else if x0 = 57 then 25 else if x0 = 58 then 26 else if x0 = 59 then 23 else if x0 = 60 then 28 else if x0 = 61 then 32 else if x0 = 62 then 35 else if x0 = 63 then 36 else if x0 = 64 then 2 else if x0 = 65 then 4 else if x0 = 66 then 5 else if x0 = 67 then 24 else if x0 = 68 then 12 else if x0 = 69 then 3 else if x0 = 70 then 27 else if x0 = 71 then 47 else if x0 = 72 then 3 else if x0 = 73 then 27 else if x0 = 74 then 17 else 27
set_option maxHeartbeats 20000 in
theorem e_X43_longKind (s : jS) (x0 : Int) : m_X43_longKind s x0 = some (v_X43_longKind x0) := by
  rw [em_X43_longKind]; unfold dm_X43_longKind
  unfold v_X43_longKind
  repeat' (first | refine jite (fun _ => ?_) (fun _ => ?_) | rw [jz] | rw [Option.bind_some])
  all_goals first | rfl | ((try simp (disch := grind) only [Option.bind_some, jlet, Wz_0, Wz_1, Wz_if, L_cmp_0, L_cmp_lt, L_cmp_gt]); all_goals (first | rfl | (simp only [v_X43_longKind, apply_ite some]; done) | ((try simp only [jlt, jix, jdv, jrd, Option.bind_some]); ((repeat' split) <;> first | rfl | omega | (simp_all; done) | (simp_all; omega)); done) | grind (splits := 40) [jlt, jix, jdv, jrd, v_X43_longKind]))
set_option maxHeartbeats 20000 in
theorem e_X43_widthOf (s : jS) (x0 x1 : Int) : m_X43_widthOf s x0 x1 = some (if x1 = 10 then 1 else if x1 = 13 then 1 else if x1 = 15 then 1 else if x1 = 11 then 2 else if x1 = 14 then 2 else if x1 = 16 then 2 else 4) := by
  rw [em_X43_widthOf]; unfold dm_X43_widthOf
  repeat' (first | refine jite (fun _ => ?_) (fun _ => ?_) | rw [jz] | rw [Option.bind_some])
  all_goals first | rfl | ((try simp (disch := grind) only [Option.bind_some, jlet, Wz_0, Wz_1, Wz_if, L_cmp_0, L_cmp_lt, L_cmp_gt]); all_goals (first | rfl | (simp only [apply_ite some]; done) | ((try simp only [jlt, jix, jdv, jrd, Option.bind_some]); ((repeat' split) <;> first | rfl | omega | (simp_all; done) | (simp_all; omega)); done) | grind (splits := 40) [jlt, jix, jdv, jrd]))
set_option maxHeartbeats 20000 in
theorem e_X43_latest (s : jS) (x0 : Int) : m_X43_latest s x0 = some ((W32 (13 * (I_rem (W32 ((W32 ((jf s 47 x0 24) + 100)) - 1)) 100)))) := by
  rw [em_X43_latest]; unfold dm_X43_latest
  repeat' (first | refine jite (fun _ => ?_) (fun _ => ?_) | rw [jz] | rw [Option.bind_some])
  all_goals first | rfl | ((try simp (disch := grind) only [Option.bind_some, jlet, Wz_0, Wz_1, Wz_if, L_cmp_0, L_cmp_lt, L_cmp_gt]); all_goals (first | rfl | (simp only [apply_ite some]; done) | ((try simp only [jlt, jix, jdv, jrd, Option.bind_some]); ((repeat' split) <;> first | rfl | omega | (simp_all; done) | (simp_all; omega)); done) | grind (splits := 40) [jlt, jix, jdv, jrd]))
abbrev p_X43_branches (x0 x1 x2 : Int) : Prop := (x0 = 4) ∧ (x1 = x2) ∨ ¬ (x0 = 4) ∧ ((x0 = 5) ∧ (¬ (x1 = x2)) ∨ ¬ (x0 = 5) ∧ ((x0 = 6) ∧ (x1 < x2) ∨ ¬ (x0 = 6) ∧ ((x0 = 7) ∧ (¬ (x1 < x2)) ∨ ¬ (x0 = 7) ∧ ((x0 = 8) ∧ ((L_and x1 4294967295) < (L_and x2 4294967295)) ∨ ¬ (x0 = 8) ∧ (¬ ((L_and x1 4294967295) < (L_and x2 4294967295)))))))
set_option maxHeartbeats 20000 in
theorem e_X43_branches (s : jS) (x0 x1 x2 : Int) : m_X43_branches s x0 x1 x2 = some (if p_X43_branches x0 x1 x2 then 1 else 0) := by
  rw [em_X43_branches]; unfold dm_X43_branches
  all_goals first | rfl | ((try simp (disch := grind) only [e_X43_bare, Option.bind_some, jlet, Wz_0, Wz_1, Wz_if, L_cmp_0, L_cmp_lt, L_cmp_gt]); all_goals (first | rfl | ((by_cases hP : (p_X43_branches x0 x1 x2)) <;> (first | rw [if_pos hP] | rw [if_neg hP]) <;> (try unfold p_X43_branches at hP) <;> (try simp only [jlt, jix, jdv, jrd, Option.bind_some]) <;> (repeat' split) <;> first | rfl | (exfalso; omega) | (simp_all; done) | (simp_all; omega)) | grind (splits := 40) [jlt, jix, jdv, jrd]))
set_option maxHeartbeats 20000 in
theorem e_X43_truth (s : jS) (x0 : Int) : m_X43_truth s x0 = some (if x0 = 0 then 0 else 1) := by
  rw [em_X43_truth]; unfold dm_X43_truth
  repeat' (first | refine jite (fun _ => ?_) (fun _ => ?_) | rw [jz] | rw [Option.bind_some])
  all_goals first | rfl | ((try simp (disch := grind) only [Option.bind_some, jlet, Wz_0, Wz_1, Wz_if, L_cmp_0, L_cmp_lt, L_cmp_gt]); all_goals (first | rfl | (simp only [apply_ite some]; done) | ((try simp only [jlt, jix, jdv, jrd, Option.bind_some]); ((repeat' split) <;> first | rfl | omega | (simp_all; done) | (simp_all; omega)); done) | grind (splits := 40) [jlt, jix, jdv, jrd]))
def v_X43_multiplied (x0 x1 x2 : Int) : Int := if x0 = 37 then (W32 (x1 * x2)) else if x0 = 38 then (L2i (L_shr (W64 (x1 * x2)) 32)) else if x0 = 39 then (L2i (L_shr (W64 (x1 * (L_and x2 4294967295))) 32)) else if x0 = 40 then (L2i (L_ushr (W64 ((L_and x1 4294967295) * (L_and x2 4294967295))) 32)) else if x0 = 41 then if x2 = 0 then (-1) else if x2 = (-1) then (W32 (-x1)) else (I_div x1 x2) else if x0 = 42 then if x2 = 0 then (-1) else (L2i (L_div (L_and x1 4294967295) (L_and x2 4294967295))) else if x0 = 43 then if x2 = 0 then x1 else if x2 = (-1) then 0 else (I_rem x1 x2) else if x2 = 0 then x1 else (L2i (L_rem (L_and x1 4294967295) (L_and x2 4294967295)))
set_option maxHeartbeats 20000 in
theorem e_X43_multiplied (s : jS) (x0 x1 x2 : Int) (h0 : ¬ (x0 = 37) → ¬ (x0 = 38) → ¬ (x0 = 39) → ¬ (x0 = 40) → ¬ (x0 = 41) → x0 = 42 → ¬ (x2 = 0) → (¬ (L_and x2 4294967295) = 0)) (h1 : ¬ (x0 = 37) → ¬ (x0 = 38) → ¬ (x0 = 39) → ¬ (x0 = 40) → ¬ (x0 = 41) → ¬ (x0 = 42) → ¬ (x0 = 43) → ¬ (x2 = 0) → (¬ (L_and x2 4294967295) = 0)) : m_X43_multiplied s x0 x1 x2 = some (v_X43_multiplied x0 x1 x2) := by
  rw [em_X43_multiplied]; unfold dm_X43_multiplied
  unfold v_X43_multiplied
  repeat' (first | refine jite (fun _ => ?_) (fun _ => ?_) | rw [jz] | rw [Option.bind_some] | rw [e_X43_bare])
  all_goals first | rfl | ((try simp (disch := grind) only [e_X43_bare, Option.bind_some, jlet, Wz_0, Wz_1, Wz_if, L_cmp_0, L_cmp_lt, L_cmp_gt]); all_goals (first | rfl | (simp only [v_X43_multiplied, apply_ite some]; done) | ((try simp only [jlt, jix, jdv, jrd, Option.bind_some]); ((repeat' split) <;> first | rfl | omega | (simp_all; done) | (simp_all; omega)); done) | grind (splits := 40) [jlt, jix, jdv, jrd, v_X43_multiplied]))
set_option maxHeartbeats 20000 in
theorem e_X43_get (s : jS) (x0 x1 : Int) : m_X43_get s x0 x1 = some (if x1 = 32 then (jf s 47 x0 11) else if 0 < x1 then if x1 < 32 then (jf s 1000 (x0 + 9) x1) else 0 else 0) := by
  rw [em_X43_get]; unfold dm_X43_get
  repeat' (first | refine jite (fun _ => ?_) (fun _ => ?_) | rw [jz] | rw [Option.bind_some])
  all_goals first | rfl | ((try simp (disch := grind) only [Option.bind_some, jlet, Wz_0, Wz_1, Wz_if, L_cmp_0, L_cmp_lt, L_cmp_gt]); all_goals (first | rfl | (simp only [apply_ite some]; done) | ((try simp only [jlt, jix, jdv, jrd, Option.bind_some]); ((repeat' split) <;> first | rfl | omega | (simp_all; done) | (simp_all; omega)); done) | grind (splits := 40) [jlt, jix, jdv, jrd]))
set_option maxHeartbeats 20000 in
theorem e_X43_peek (s : jS) (x0 x1 : Int) : m_X43_peek s x0 x1 = some (if x1 < 0 then (-1) else if x1 < 131072 then (jf s 1000 (x0 + 3) x1) else (-1)) := by
  rw [em_X43_peek]; unfold dm_X43_peek
  repeat' (first | refine jite (fun _ => ?_) (fun _ => ?_) | rw [jz] | rw [Option.bind_some])
  all_goals first | rfl | ((try simp (disch := grind) only [Option.bind_some, jlet, Wz_0, Wz_1, Wz_if, L_cmp_0, L_cmp_lt, L_cmp_gt]); all_goals (first | rfl | (simp only [apply_ite some]; done) | ((try simp only [jlt, jix, jdv, jrd, Option.bind_some]); ((repeat' split) <;> first | rfl | omega | (simp_all; done) | (simp_all; omega)); done) | grind (splits := 40) [jlt, jix, jdv, jrd]))
def v_X43_state (s : jS) (x0 x1 : Int) : Int := if x1 = 0 then (jf s 47 x0 17) else if x1 = 1 then (jf s 47 x0 18) else if x1 = 2 then (jf s 47 x0 19) else if x1 = 3 then (jf s 47 x0 20) else if x1 = 4 then (jf s 47 x0 21) else if x1 = 5 then (jf s 47 x0 16) else if x1 = 6 then (W32 ((jf s 47 x0 13) - (jf s 47 x0 14))) else if x1 = 7 then (jf s 47 x0 23) else if x1 = 8 then (jf s 47 x0 9) else (-1)
set_option maxHeartbeats 20000 in
theorem e_X43_state (s : jS) (x0 x1 : Int) : m_X43_state s x0 x1 = some (v_X43_state s x0 x1) := by
  rw [em_X43_state]; unfold dm_X43_state
  unfold v_X43_state
  repeat' (first | refine jite (fun _ => ?_) (fun _ => ?_) | rw [jz] | rw [Option.bind_some])
  all_goals first | rfl | ((try simp (disch := grind) only [Option.bind_some, jlet, Wz_0, Wz_1, Wz_if, L_cmp_0, L_cmp_lt, L_cmp_gt]); all_goals (first | rfl | (simp only [v_X43_state, apply_ite some]; done) | ((try simp only [jlt, jix, jdv, jrd, Option.bind_some]); ((repeat' split) <;> first | rfl | omega | (simp_all; done) | (simp_all; omega)); done) | grind (splits := 40) [jlt, jix, jdv, jrd, v_X43_state]))
set_option maxHeartbeats 20000 in
theorem e_X43_output (s : jS) (x0 x1 : Int) (h0 : ¬ (x1 < 0) → x1 < (jf s 47 x0 16) → (0 ≤ x1 ∧ x1 < 2000)) : m_X43_output s x0 x1 = some (if x1 < 0 then (-1) else if x1 < (jf s 47 x0 16) then (jf s 1000 (x0 + 11) x1) else (-1)) := by
  rw [em_X43_output]; unfold dm_X43_output
  repeat' (first | refine jite (fun _ => ?_) (fun _ => ?_) | rw [jz] | rw [Option.bind_some])
  all_goals first | rfl | ((try simp (disch := grind) only [Option.bind_some, jlet, Wz_0, Wz_1, Wz_if, L_cmp_0, L_cmp_lt, L_cmp_gt]); all_goals (first | rfl | (simp only [apply_ite some]; done) | ((try simp only [jlt, jix, jdv, jrd, Option.bind_some]); ((repeat' split) <;> first | rfl | omega | (simp_all; done) | (simp_all; omega)); done) | grind (splits := 40) [jlt, jix, jdv, jrd]))
def v_X38_isImmediate (x0 x1 : Int) : Int := if x0 < 2 then (if ¬ (x1 < 0) ∧ (¬ (1048575 < x1) ∧ ((L_rem x1 1) = 0)) then (1 : Int) else 0) else (if x0 = 2 then (if ¬ (x1 < (-1048576)) ∧ (¬ (1048574 < x1) ∧ ((L_rem x1 2) = 0)) then (1 : Int) else 0) else (if (3 < x0) ∧ (x0 < 10) then (if ¬ (x1 < (-4096)) ∧ (¬ (4094 < x1) ∧ ((L_rem x1 2) = 0)) then (1 : Int) else 0) else (if (23 < x0) ∧ (x0 < 27) then (if ¬ (x1 < 0) ∧ (¬ (31 < x1) ∧ ((L_rem x1 1) = 0)) then (1 : Int) else 0) else (if x0 < 48 then (if ¬ (x1 < (-2048)) ∧ (¬ (2047 < x1) ∧ ((L_rem x1 1) = 0)) then (1 : Int) else 0) else (if x0 = 48 then (if ¬ (x1 < 4) ∧ (¬ (1020 < x1) ∧ ((L_rem x1 4) = 0)) then (1 : Int) else 0) else (if x0 = 49 then (if ¬ (x1 < 0) ∧ (¬ (124 < x1) ∧ ((L_rem x1 4) = 0)) then (1 : Int) else 0) else (if x0 = 50 then (if ¬ (x1 < 0) ∧ (¬ (124 < x1) ∧ ((L_rem x1 4) = 0)) then (1 : Int) else 0) else (if x0 = 51 then (if ¬ (x1 < 0) ∧ (¬ (252 < x1) ∧ ((L_rem x1 4) = 0)) then (1 : Int) else 0) else (if x0 = 52 then (if x1 = 0 then 0 else (if ¬ (x1 < (-32)) ∧ (¬ (31 < x1) ∧ ((L_rem x1 1) = 0)) then 1 else 0)) else (if x0 = 53 then (if ¬ (x1 < (-2048)) ∧ (¬ (2046 < x1) ∧ ((L_rem x1 2) = 0)) then (1 : Int) else 0) else (if x0 = 54 then (if ¬ (x1 < (-32)) ∧ (¬ (31 < x1) ∧ ((L_rem x1 1) = 0)) then (1 : Int) else 0) else (if x0 = 55 then (if x1 = 0 then 0 else (if ¬ (x1 < (-512)) ∧ (¬ (496 < x1) ∧ ((L_rem x1 16) = 0)) then 1 else 0)) else (if x0 = 56 then (if ¬ (x1 < 1) ∧ (¬ (31 < x1) ∧ ((L_rem x1 1) = 0)) then 1 else (if ¬ (x1 < 1048544) ∧ (¬ (1048575 < x1) ∧ ((L_rem x1 1) = 0)) then 1 else 0)) else (if x0 = 57 then (if ¬ (x1 < 1) ∧ (¬ (31 < x1) ∧ ((L_rem x1 1) = 0)) then (1 : Int) else 0) else (if x0 = 58 then (if ¬ (x1 < 1) ∧ (¬ (31 < x1) ∧ ((L_rem x1 1) = 0)) then (1 : Int) else 0) else (if x0 = 59 then (if ¬ (x1 < (-32)) ∧ (¬ (31 < x1) ∧ ((L_rem x1 1) = 0)) then (1 : Int) else 0) else (if x0 = 60 then (if ¬ (x1 < 0) ∧ (¬ (252 < x1) ∧ ((L_rem x1 4) = 0)) then (1 : Int) else 0) else (if x0 = 61 then (if ¬ (x1 < 0) ∧ (¬ (252 < x1) ∧ ((L_rem x1 4) = 0)) then (1 : Int) else 0) else (if x0 = 62 then (if ¬ (x1 < 0) ∧ (¬ (252 < x1) ∧ ((L_rem x1 4) = 0)) then (1 : Int) else 0) else (if x0 = 63 then (if ¬ (x1 < 0) ∧ (¬ (252 < x1) ∧ ((L_rem x1 4) = 0)) then (1 : Int) else 0) else (if x0 = 64 then (if ¬ (x1 < (-2048)) ∧ (¬ (2046 < x1) ∧ ((L_rem x1 2) = 0)) then (1 : Int) else 0) else (if x0 = 65 then (if ¬ (x1 < (-256)) ∧ (¬ (254 < x1) ∧ ((L_rem x1 2) = 0)) then (1 : Int) else 0) else (if x0 = 66 then (if ¬ (x1 < (-256)) ∧ (¬ (254 < x1) ∧ ((L_rem x1 2) = 0)) then (1 : Int) else 0) else (if x0 = 67 then (if ¬ (x1 < 1) ∧ (¬ (31 < x1) ∧ ((L_rem x1 1) = 0)) then (1 : Int) else 0) else (if ¬ (x1 < 0) ∧ (¬ (252 < x1) ∧ ((L_rem x1 4) = 0)) then (1 : Int) else 0)))))))))))))))))))))))))
set_option maxHeartbeats 20000 in
theorem e_X38_isImmediate (s : jS) (x0 x1 : Int) : m_X38_isImmediate s x0 x1 = some (v_X38_isImmediate x0 x1) := by
  rw [em_X38_isImmediate]; unfold dm_X38_isImmediate
  unfold v_X38_isImmediate
  repeat' (first | refine jite (fun _ => ?_) (fun _ => ?_) | rw [jz] | rw [Option.bind_some] | rw [e_X38_isBranch] | rw [e_X38_isShift] | (rw [eu_X38_isImmediate_198]; unfold du_X38_isImmediate_198) | (rw [eu_X38_isImmediate_236]; unfold du_X38_isImmediate_236) | (rw [eu_X38_isImmediate_250]; unfold du_X38_isImmediate_250) | (rw [eu_X38_isImmediate_322]; unfold du_X38_isImmediate_322) | (rw [eu_X38_isImmediate_332]; unfold du_X38_isImmediate_332) | (rw [eu_X38_isImmediate_346]; unfold du_X38_isImmediate_346))
  all_goals first | rfl | ((try simp (disch := grind) only [eu_X38_isImmediate_198, du_X38_isImmediate_198, eu_X38_isImmediate_236, du_X38_isImmediate_236, eu_X38_isImmediate_250, du_X38_isImmediate_250, eu_X38_isImmediate_322, du_X38_isImmediate_322, eu_X38_isImmediate_332, du_X38_isImmediate_332, eu_X38_isImmediate_346, du_X38_isImmediate_346, e_X38_isBranch, e_X38_isShift, e_X38_isStep, Option.bind_some, jlet, Wz_0, Wz_1, Wz_if, L_cmp_0, L_cmp_lt, L_cmp_gt]); all_goals (first | rfl | (simp only [v_X38_isImmediate, apply_ite some]; done) | ((try simp only [jlt, jix, jdv, jrd, Option.bind_some]); ((repeat' split) <;> first | rfl | omega | (simp_all; done) | (simp_all; omega)); done) | grind (splits := 40) [jlt, jix, jdv, jrd, v_X38_isImmediate]))
abbrev p_X39_isInName (x0 : Int) : Prop := ((x0 < 97) ∧ ((x0 < 65) ∧ ((x0 = 95) ∨ (x0 = 46)) ∨ ¬ (x0 < 65) ∧ (¬ (90 < x0) ∨ ((x0 = 95) ∨ (x0 = 46)))) ∨ ¬ (x0 < 97) ∧ (¬ (122 < x0) ∨ ((x0 < 65) ∧ ((x0 = 95) ∨ (x0 = 46)) ∨ ¬ (x0 < 65) ∧ (¬ (90 < x0) ∨ ((x0 = 95) ∨ (x0 = 46)))))) ∨ ((¬ (x0 < 48) ∧ (¬ (57 < x0))) ∨ (x0 = 36))
set_option maxHeartbeats 20000 in
theorem e_X39_isInName (s : jS) (x0 : Int) : m_X39_isInName s x0 = some (if p_X39_isInName x0 then 1 else 0) := by
  rw [em_X39_isInName]; unfold dm_X39_isInName
  all_goals first | rfl | ((try simp (disch := grind) only [e_X39_isDigit, e_X39_isLetter, Option.bind_some, jlet, Wz_0, Wz_1, Wz_if, L_cmp_0, L_cmp_lt, L_cmp_gt]); all_goals (first | rfl | ((by_cases hP : (p_X39_isInName x0)) <;> (first | rw [if_pos hP] | rw [if_neg hP]) <;> (try unfold p_X39_isInName at hP) <;> (try simp only [jlt, jix, jdv, jrd, Option.bind_some]) <;> (repeat' split) <;> first | rfl | (exfalso; omega) | (simp_all; done) | (simp_all; omega)) | grind (splits := 40) [jlt, jix, jdv, jrd]))
set_option maxHeartbeats 20000 in
theorem e_X40_told (s : jS) (x0 x1 x2 : Int) (h0 : (0 ≤ (W32 ((W32 ((jf s 44 x0 39) + (W32 (40 * x1)))) + (W32 (4 * x2)))) ∧ (W32 ((W32 ((jf s 44 x0 39) + (W32 (40 * x1)))) + (W32 (4 * x2)))) < 8192)) (h1 : (0 ≤ (W32 ((W32 ((W32 ((jf s 44 x0 39) + (W32 (40 * x1)))) + (W32 (4 * x2)))) + 1)) ∧ (W32 ((W32 ((W32 ((jf s 44 x0 39) + (W32 (40 * x1)))) + (W32 (4 * x2)))) + 1)) < 8192)) (h2 : (0 ≤ (W32 ((W32 ((W32 ((jf s 44 x0 39) + (W32 (40 * x1)))) + (W32 (4 * x2)))) + 2)) ∧ (W32 ((W32 ((W32 ((jf s 44 x0 39) + (W32 (40 * x1)))) + (W32 (4 * x2)))) + 2)) < 8192)) (h3 : (0 ≤ (W32 ((W32 ((W32 ((W32 ((jf s 44 x0 39) + (W32 (40 * x1)))) + (W32 (4 * x2)))) + 2)) + 1)) ∧ (W32 ((W32 ((W32 ((W32 ((jf s 44 x0 39) + (W32 (40 * x1)))) + (W32 (4 * x2)))) + 2)) + 1)) < 8192)) : m_X40_told s x0 x1 x2 = some ((v_X40_read4 s x0 (W32 ((W32 ((jf s 44 x0 39) + (W32 (40 * x1)))) + (W32 (4 * x2)))))) := by
  rw [em_X40_told]; unfold dm_X40_told
  repeat' (first | refine jite (fun _ => ?_) (fun _ => ?_) | rw [jz] | rw [Option.bind_some] | rw [e_X40_spotOf])
  all_goals first | rfl | ((try simp (disch := grind) only [e_X40_read4, e_X40_spotOf, Option.bind_some, jlet, Wz_0, Wz_1, Wz_if, L_cmp_0, L_cmp_lt, L_cmp_gt]); all_goals (first | rfl | (simp only [apply_ite some]; done) | ((try simp only [jlt, jix, jdv, jrd, Option.bind_some]); ((repeat' split) <;> first | rfl | omega | (simp_all; done) | (simp_all; omega)); done) | grind (splits := 40) [jlt, jix, jdv, jrd]))
set_option maxHeartbeats 20000 in
theorem e_X42_sizeOfMark (s : jS) (x0 x1 x2 : Int) (h0 : (0 ≤ (W32 ((W32 (12288 * x1)) + (W32 (2 * x2)))) ∧ (W32 ((W32 (12288 * x1)) + (W32 (2 * x2)))) < 24576)) : m_X42_sizeOfMark s x0 x1 x2 = some (if ¬ ((I_and (jf s 1000 (x0 + 5) (W32 ((W32 (12288 * x1)) + (W32 (2 * x2))))) 3) = 3) then 2 else 4) := by
  rw [em_X42_sizeOfMark]; unfold dm_X42_sizeOfMark
  repeat' (first | refine jite (fun _ => ?_) (fun _ => ?_) | rw [jz] | rw [Option.bind_some] | rw [e_X42_isShort])
  all_goals first | rfl | ((try simp (disch := grind) only [e_X42_isShort, Option.bind_some, jlet, Wz_0, Wz_1, Wz_if, L_cmp_0, L_cmp_lt, L_cmp_gt]); all_goals (first | rfl | (simp only [apply_ite some]; done) | ((try simp only [jlt, jix, jdv, jrd, Option.bind_some]); ((repeat' split) <;> first | rfl | omega | (simp_all; done) | (simp_all; omega)); done) | grind (splits := 40) [jlt, jix, jdv, jrd]))
set_option maxHeartbeats 20000 in
theorem e_X42_number (s : jS) (x0 x1 x2 : Int) (h0 : (0 ≤ (W32 ((W32 ((jf s 46 x0 11) + (W32 (32 * x1)))) + (W32 (4 * x2)))) ∧ (W32 ((W32 ((jf s 46 x0 11) + (W32 (32 * x1)))) + (W32 (4 * x2)))) < 16384)) (h1 : (0 ≤ (W32 ((W32 ((W32 ((jf s 46 x0 11) + (W32 (32 * x1)))) + (W32 (4 * x2)))) + 1)) ∧ (W32 ((W32 ((W32 ((jf s 46 x0 11) + (W32 (32 * x1)))) + (W32 (4 * x2)))) + 1)) < 16384)) (h2 : (0 ≤ (W32 ((W32 ((W32 ((jf s 46 x0 11) + (W32 (32 * x1)))) + (W32 (4 * x2)))) + 2)) ∧ (W32 ((W32 ((W32 ((jf s 46 x0 11) + (W32 (32 * x1)))) + (W32 (4 * x2)))) + 2)) < 16384)) (h3 : (0 ≤ (W32 ((W32 ((W32 ((W32 ((jf s 46 x0 11) + (W32 (32 * x1)))) + (W32 (4 * x2)))) + 2)) + 1)) ∧ (W32 ((W32 ((W32 ((W32 ((jf s 46 x0 11) + (W32 (32 * x1)))) + (W32 (4 * x2)))) + 2)) + 1)) < 16384)) : m_X42_number s x0 x1 x2 = some ((v_X42_read4 s x0 (W32 ((W32 ((jf s 46 x0 11) + (W32 (32 * x1)))) + (W32 (4 * x2)))))) := by
  rw [em_X42_number]; unfold dm_X42_number
  repeat' (first | refine jite (fun _ => ?_) (fun _ => ?_) | rw [jz] | rw [Option.bind_some] | rw [e_X42_spot])
  all_goals first | rfl | ((try simp (disch := grind) only [e_X42_read4, e_X42_spot, Option.bind_some, jlet, Wz_0, Wz_1, Wz_if, L_cmp_0, L_cmp_lt, L_cmp_gt]); all_goals (first | rfl | (simp only [apply_ite some]; done) | ((try simp only [jlt, jix, jdv, jrd, Option.bind_some]); ((repeat' split) <;> first | rfl | omega | (simp_all; done) | (simp_all; omega)); done) | grind (splits := 40) [jlt, jix, jdv, jrd]))
def v_X42_sortOf (s : jS) (x0 x1 : Int) : Int := if (v_X42_read4 s x0 (W32 ((W32 ((jf s 46 x0 11) + (W32 (32 * x1)))) + (W32 (4 * 0))))) = 4 then if (v_X42_read4 s x0 (W32 ((W32 ((jf s 46 x0 11) + (W32 (32 * x1)))) + (W32 (4 * 6))))) = 4 then 3 else (-1) else if (v_X42_read4 s x0 (W32 ((W32 ((jf s 46 x0 11) + (W32 (32 * x1)))) + (W32 (4 * 6))))) = 5 then 0 else if (v_X42_read4 s x0 (W32 ((W32 ((jf s 46 x0 11) + (W32 (32 * x1)))) + (W32 (4 * 6))))) = 4 then 1 else if (v_X42_read4 s x0 (W32 ((W32 ((jf s 46 x0 11) + (W32 (32 * x1)))) + (W32 (4 * 6))))) = 6 then 2 else (-1)
set_option maxHeartbeats 20000 in
theorem e_X42_sortOf (s : jS) (x0 x1 : Int) (h0 : (0 ≤ (W32 ((W32 ((jf s 46 x0 11) + (W32 (32 * x1)))) + (W32 (4 * 6)))) ∧ (W32 ((W32 ((jf s 46 x0 11) + (W32 (32 * x1)))) + (W32 (4 * 6)))) < 16384)) (h1 : (0 ≤ (W32 ((W32 ((W32 ((jf s 46 x0 11) + (W32 (32 * x1)))) + (W32 (4 * 6)))) + 1)) ∧ (W32 ((W32 ((W32 ((jf s 46 x0 11) + (W32 (32 * x1)))) + (W32 (4 * 6)))) + 1)) < 16384)) (h2 : (0 ≤ (W32 ((W32 ((W32 ((jf s 46 x0 11) + (W32 (32 * x1)))) + (W32 (4 * 6)))) + 2)) ∧ (W32 ((W32 ((W32 ((jf s 46 x0 11) + (W32 (32 * x1)))) + (W32 (4 * 6)))) + 2)) < 16384)) (h3 : (0 ≤ (W32 ((W32 ((W32 ((W32 ((jf s 46 x0 11) + (W32 (32 * x1)))) + (W32 (4 * 6)))) + 2)) + 1)) ∧ (W32 ((W32 ((W32 ((W32 ((jf s 46 x0 11) + (W32 (32 * x1)))) + (W32 (4 * 6)))) + 2)) + 1)) < 16384)) (h4 : (0 ≤ (W32 ((W32 ((jf s 46 x0 11) + (W32 (32 * x1)))) + (W32 (4 * 0)))) ∧ (W32 ((W32 ((jf s 46 x0 11) + (W32 (32 * x1)))) + (W32 (4 * 0)))) < 16384)) (h5 : (0 ≤ (W32 ((W32 ((W32 ((jf s 46 x0 11) + (W32 (32 * x1)))) + (W32 (4 * 0)))) + 1)) ∧ (W32 ((W32 ((W32 ((jf s 46 x0 11) + (W32 (32 * x1)))) + (W32 (4 * 0)))) + 1)) < 16384)) (h6 : (0 ≤ (W32 ((W32 ((W32 ((jf s 46 x0 11) + (W32 (32 * x1)))) + (W32 (4 * 0)))) + 2)) ∧ (W32 ((W32 ((W32 ((jf s 46 x0 11) + (W32 (32 * x1)))) + (W32 (4 * 0)))) + 2)) < 16384)) (h7 : (0 ≤ (W32 ((W32 ((W32 ((W32 ((jf s 46 x0 11) + (W32 (32 * x1)))) + (W32 (4 * 0)))) + 2)) + 1)) ∧ (W32 ((W32 ((W32 ((W32 ((jf s 46 x0 11) + (W32 (32 * x1)))) + (W32 (4 * 0)))) + 2)) + 1)) < 16384)) : m_X42_sortOf s x0 x1 = some (v_X42_sortOf s x0 x1) := by
  rw [em_X42_sortOf]; unfold dm_X42_sortOf
  unfold v_X42_sortOf
  repeat' (first | refine jite (fun _ => ?_) (fun _ => ?_) | rw [jz] | rw [Option.bind_some])
  all_goals first | rfl | ((try simp (disch := grind) only [e_X42_number, Option.bind_some, jlet, Wz_0, Wz_1, Wz_if, L_cmp_0, L_cmp_lt, L_cmp_gt]); all_goals (first | rfl | (simp only [v_X42_sortOf, apply_ite some]; done) | ((try simp only [jlt, jix, jdv, jrd, Option.bind_some]); ((repeat' split) <;> first | rfl | omega | (simp_all; done) | (simp_all; omega)); done) | grind (splits := 40) [jlt, jix, jdv, jrd, v_X42_sortOf]))
set_option maxHeartbeats 20000 in
theorem e_X43_isUnit (s : jS) (x0 : Int) (h0 : ¬ ((jf s 47 x0 7) = 0) → ¬ ((L_and (jf s 47 x0 11) 4294967295) < 0) → (L_and (jf s 47 x0 11) 4294967295) < 131072 → (L_rem (L_and (jf s 47 x0 11) 4294967295) 2) = 0 → (0 ≤ (I_div (L2i (L_and (jf s 47 x0 11) 4294967295)) 2) ∧ (I_div (L2i (L_and (jf s 47 x0 11) 4294967295)) 2) < 65536)) : m_X43_isUnit s x0 = some (if ((jf s 47 x0 7) = 0) ∨ (¬ ((L_and (jf s 47 x0 11) 4294967295) < 0) ∧ (((L_and (jf s 47 x0 11) 4294967295) < 131072) ∧ (((L_rem (L_and (jf s 47 x0 11) 4294967295) 2) = 0) ∧ (¬ ((jf s 1002 (x0 + 4) (I_div (L2i (L_and (jf s 47 x0 11) 4294967295)) 2)) = 0))))) then 1 else 0) := by
  rw [em_X43_isUnit]; unfold dm_X43_isUnit
  all_goals first | rfl | ((try simp (disch := grind) only [e_X43_bare, e_X43_isMarked, Option.bind_some, jlet, Wz_0, Wz_1, Wz_if, L_cmp_0, L_cmp_lt, L_cmp_gt]); all_goals (first | rfl | ((by_cases hP : (((jf s 47 x0 7) = 0) ∨ (¬ ((L_and (jf s 47 x0 11) 4294967295) < 0) ∧ (((L_and (jf s 47 x0 11) 4294967295) < 131072) ∧ (((L_rem (L_and (jf s 47 x0 11) 4294967295) 2) = 0) ∧ (¬ ((jf s 1002 (x0 + 4) (I_div (L2i (L_and (jf s 47 x0 11) 4294967295)) 2)) = 0))))))) <;> (first | rw [if_pos hP] | rw [if_neg hP]) <;> (try simp only [jlt, jix, jdv, jrd, Option.bind_some]) <;> (repeat' split) <;> first | rfl | (exfalso; omega) | (simp_all; done) | (simp_all; omega)) | grind (splits := 40) [jlt, jix, jdv, jrd]))
def v_X43_isImmediate (x0 x1 : Int) : Int := if x0 < 2 then (if ¬ (x1 < 0) ∧ (¬ (1048575 < x1) ∧ ((L_rem x1 1) = 0)) then (1 : Int) else 0) else (if x0 = 2 then (if ¬ (x1 < (-1048576)) ∧ (¬ (1048574 < x1) ∧ ((L_rem x1 2) = 0)) then (1 : Int) else 0) else (if (3 < x0) ∧ (x0 < 10) then (if ¬ (x1 < (-4096)) ∧ (¬ (4094 < x1) ∧ ((L_rem x1 2) = 0)) then (1 : Int) else 0) else (if (23 < x0) ∧ (x0 < 27) then (if ¬ (x1 < 0) ∧ (¬ (31 < x1) ∧ ((L_rem x1 1) = 0)) then (1 : Int) else 0) else (if x0 < 48 then (if ¬ (x1 < (-2048)) ∧ (¬ (2047 < x1) ∧ ((L_rem x1 1) = 0)) then (1 : Int) else 0) else (if x0 = 48 then (if ¬ (x1 < 4) ∧ (¬ (1020 < x1) ∧ ((L_rem x1 4) = 0)) then (1 : Int) else 0) else (if x0 = 49 then (if ¬ (x1 < 0) ∧ (¬ (124 < x1) ∧ ((L_rem x1 4) = 0)) then (1 : Int) else 0) else (if x0 = 50 then (if ¬ (x1 < 0) ∧ (¬ (124 < x1) ∧ ((L_rem x1 4) = 0)) then (1 : Int) else 0) else (if x0 = 51 then (if ¬ (x1 < 0) ∧ (¬ (252 < x1) ∧ ((L_rem x1 4) = 0)) then (1 : Int) else 0) else (if x0 = 52 then (if x1 = 0 then 0 else (if ¬ (x1 < (-32)) ∧ (¬ (31 < x1) ∧ ((L_rem x1 1) = 0)) then 1 else 0)) else (if x0 = 53 then (if ¬ (x1 < (-2048)) ∧ (¬ (2046 < x1) ∧ ((L_rem x1 2) = 0)) then (1 : Int) else 0) else (if x0 = 54 then (if ¬ (x1 < (-32)) ∧ (¬ (31 < x1) ∧ ((L_rem x1 1) = 0)) then (1 : Int) else 0) else (if x0 = 55 then (if x1 = 0 then 0 else (if ¬ (x1 < (-512)) ∧ (¬ (496 < x1) ∧ ((L_rem x1 16) = 0)) then 1 else 0)) else (if x0 = 56 then (if ¬ (x1 < 1) ∧ (¬ (31 < x1) ∧ ((L_rem x1 1) = 0)) then 1 else (if ¬ (x1 < 1048544) ∧ (¬ (1048575 < x1) ∧ ((L_rem x1 1) = 0)) then 1 else 0)) else (if x0 = 57 then (if ¬ (x1 < 1) ∧ (¬ (31 < x1) ∧ ((L_rem x1 1) = 0)) then (1 : Int) else 0) else (if x0 = 58 then (if ¬ (x1 < 1) ∧ (¬ (31 < x1) ∧ ((L_rem x1 1) = 0)) then (1 : Int) else 0) else (if x0 = 59 then (if ¬ (x1 < (-32)) ∧ (¬ (31 < x1) ∧ ((L_rem x1 1) = 0)) then (1 : Int) else 0) else (if x0 = 60 then (if ¬ (x1 < 0) ∧ (¬ (252 < x1) ∧ ((L_rem x1 4) = 0)) then (1 : Int) else 0) else (if x0 = 61 then (if ¬ (x1 < 0) ∧ (¬ (252 < x1) ∧ ((L_rem x1 4) = 0)) then (1 : Int) else 0) else (if x0 = 62 then (if ¬ (x1 < 0) ∧ (¬ (252 < x1) ∧ ((L_rem x1 4) = 0)) then (1 : Int) else 0) else (if x0 = 63 then (if ¬ (x1 < 0) ∧ (¬ (252 < x1) ∧ ((L_rem x1 4) = 0)) then (1 : Int) else 0) else (if x0 = 64 then (if ¬ (x1 < (-2048)) ∧ (¬ (2046 < x1) ∧ ((L_rem x1 2) = 0)) then (1 : Int) else 0) else (if x0 = 65 then (if ¬ (x1 < (-256)) ∧ (¬ (254 < x1) ∧ ((L_rem x1 2) = 0)) then (1 : Int) else 0) else (if x0 = 66 then (if ¬ (x1 < (-256)) ∧ (¬ (254 < x1) ∧ ((L_rem x1 2) = 0)) then (1 : Int) else 0) else (if x0 = 67 then (if ¬ (x1 < 1) ∧ (¬ (31 < x1) ∧ ((L_rem x1 1) = 0)) then (1 : Int) else 0) else (if ¬ (x1 < 0) ∧ (¬ (252 < x1) ∧ ((L_rem x1 4) = 0)) then (1 : Int) else 0)))))))))))))))))))))))))
set_option maxHeartbeats 20000 in
theorem e_X43_isImmediate (s : jS) (x0 x1 : Int) : m_X43_isImmediate s x0 x1 = some (v_X43_isImmediate x0 x1) := by
  rw [em_X43_isImmediate]; unfold dm_X43_isImmediate
  unfold v_X43_isImmediate
  repeat' (first | refine jite (fun _ => ?_) (fun _ => ?_) | rw [jz] | rw [Option.bind_some] | rw [e_X43_isBranch] | rw [e_X43_isShift] | (rw [eu_X43_isImmediate_198]; unfold du_X43_isImmediate_198) | (rw [eu_X43_isImmediate_236]; unfold du_X43_isImmediate_236) | (rw [eu_X43_isImmediate_250]; unfold du_X43_isImmediate_250) | (rw [eu_X43_isImmediate_322]; unfold du_X43_isImmediate_322) | (rw [eu_X43_isImmediate_332]; unfold du_X43_isImmediate_332) | (rw [eu_X43_isImmediate_346]; unfold du_X43_isImmediate_346))
  all_goals first | rfl | ((try simp (disch := grind) only [eu_X43_isImmediate_198, du_X43_isImmediate_198, eu_X43_isImmediate_236, du_X43_isImmediate_236, eu_X43_isImmediate_250, du_X43_isImmediate_250, eu_X43_isImmediate_322, du_X43_isImmediate_322, eu_X43_isImmediate_332, du_X43_isImmediate_332, eu_X43_isImmediate_346, du_X43_isImmediate_346, e_X43_isBranch, e_X43_isShift, e_X43_isStep, Option.bind_some, jlet, Wz_0, Wz_1, Wz_if, L_cmp_0, L_cmp_lt, L_cmp_gt]); all_goals (first | rfl | (simp only [v_X43_isImmediate, apply_ite some]; done) | ((try simp only [jlt, jix, jdv, jrd, Option.bind_some]); ((repeat' split) <;> first | rfl | omega | (simp_all; done) | (simp_all; omega)); done) | grind (splits := 40) [jlt, jix, jdv, jrd, v_X43_isImmediate]))
def v_X43_reckoned (x0 x1 x2 : Int) : Int := if x0 = 18 then (W32 (x1 + x2)) else if x0 = 19 then if x1 < x2 then (if 1 = 0 then 0 else 1) else (if 0 = 0 then 0 else 1) else if x0 = 20 then if (L_and x1 4294967295) < (L_and x2 4294967295) then (if 1 = 0 then 0 else 1) else (if 0 = 0 then 0 else 1) else if x0 = 21 then (I_xor x1 x2) else if x0 = 22 then (I_or x1 x2) else if x0 = 23 then (I_and x1 x2) else if x0 = 24 then (I_shl x1 (I_and x2 31)) else if x0 = 25 then (I_ushr x1 (I_and x2 31)) else if x0 = 26 then (I_shr x1 (I_and x2 31)) else if x0 = 27 then (W32 (x1 + x2)) else if x0 = 28 then (W32 (x1 - x2)) else if x0 = 29 then (I_shl x1 (I_and x2 31)) else if x0 = 30 then if x1 < x2 then (if 1 = 0 then 0 else 1) else (if 0 = 0 then 0 else 1) else if x0 = 31 then if (L_and x1 4294967295) < (L_and x2 4294967295) then (if 1 = 0 then 0 else 1) else (if 0 = 0 then 0 else 1) else if x0 = 32 then (I_xor x1 x2) else if x0 = 33 then (I_ushr x1 (I_and x2 31)) else if x0 = 34 then (I_shr x1 (I_and x2 31)) else if x0 = 35 then (I_or x1 x2) else if x0 = 36 then (I_and x1 x2) else (v_X43_multiplied x0 x1 x2)
set_option maxHeartbeats 20000 in
theorem e_X43_reckoned (s : jS) (x0 x1 x2 : Int) (h0 : ¬ (x0 = 18) → ¬ (x0 = 19) → ¬ (x0 = 20) → ¬ (x0 = 21) → ¬ (x0 = 22) → ¬ (x0 = 23) → ¬ (x0 = 24) → ¬ (x0 = 25) → ¬ (x0 = 26) → ¬ (x0 = 27) → ¬ (x0 = 28) → ¬ (x0 = 29) → ¬ (x0 = 30) → ¬ (x0 = 31) → ¬ (x0 = 32) → ¬ (x0 = 33) → ¬ (x0 = 34) → ¬ (x0 = 35) → ¬ (x0 = 36) → ¬ (x0 = 37) → ¬ (x0 = 38) → ¬ (x0 = 39) → ¬ (x0 = 40) → ¬ (x0 = 41) → x0 = 42 → ¬ (x2 = 0) → (¬ (L_and x2 4294967295) = 0)) (h1 : ¬ (x0 = 18) → ¬ (x0 = 19) → ¬ (x0 = 20) → ¬ (x0 = 21) → ¬ (x0 = 22) → ¬ (x0 = 23) → ¬ (x0 = 24) → ¬ (x0 = 25) → ¬ (x0 = 26) → ¬ (x0 = 27) → ¬ (x0 = 28) → ¬ (x0 = 29) → ¬ (x0 = 30) → ¬ (x0 = 31) → ¬ (x0 = 32) → ¬ (x0 = 33) → ¬ (x0 = 34) → ¬ (x0 = 35) → ¬ (x0 = 36) → ¬ (x0 = 37) → ¬ (x0 = 38) → ¬ (x0 = 39) → ¬ (x0 = 40) → ¬ (x0 = 41) → ¬ (x0 = 42) → ¬ (x0 = 43) → ¬ (x2 = 0) → (¬ (L_and x2 4294967295) = 0)) : m_X43_reckoned s x0 x1 x2 = some (v_X43_reckoned x0 x1 x2) := by
  rw [em_X43_reckoned]; unfold dm_X43_reckoned
  unfold v_X43_reckoned
  repeat' (first | refine jite (fun _ => ?_) (fun _ => ?_) | rw [jz] | rw [Option.bind_some] | rw [e_X43_bare] | rw [e_X43_truth] | (rw [eu_X43_reckoned_100]; unfold du_X43_reckoned_100) | (rw [eu_X43_reckoned_110]; unfold du_X43_reckoned_110) | (rw [eu_X43_reckoned_114]; unfold du_X43_reckoned_114) | (rw [eu_X43_reckoned_131]; unfold du_X43_reckoned_131) | (rw [eu_X43_reckoned_135]; unfold du_X43_reckoned_135) | (rw [eu_X43_reckoned_139]; unfold du_X43_reckoned_139) | (rw [eu_X43_reckoned_143]; unfold du_X43_reckoned_143) | (rw [eu_X43_reckoned_147]; unfold du_X43_reckoned_147) | (rw [eu_X43_reckoned_154]; unfold du_X43_reckoned_154) | (rw [eu_X43_reckoned_161]; unfold du_X43_reckoned_161) | (rw [eu_X43_reckoned_92]; unfold du_X43_reckoned_92))
  all_goals first | rfl | ((try simp (disch := grind) only [eu_X43_reckoned_100, du_X43_reckoned_100, eu_X43_reckoned_110, du_X43_reckoned_110, eu_X43_reckoned_114, du_X43_reckoned_114, eu_X43_reckoned_131, du_X43_reckoned_131, eu_X43_reckoned_135, du_X43_reckoned_135, eu_X43_reckoned_139, du_X43_reckoned_139, eu_X43_reckoned_143, du_X43_reckoned_143, eu_X43_reckoned_147, du_X43_reckoned_147, eu_X43_reckoned_154, du_X43_reckoned_154, eu_X43_reckoned_161, du_X43_reckoned_161, eu_X43_reckoned_92, du_X43_reckoned_92, e_X43_bare, e_X43_multiplied, e_X43_truth, Option.bind_some, jlet, Wz_0, Wz_1, Wz_if, L_cmp_0, L_cmp_lt, L_cmp_gt]); all_goals (first | rfl | (simp only [v_X43_reckoned, apply_ite some]; done) | ((try simp only [jlt, jix, jdv, jrd, Option.bind_some]); ((repeat' split) <;> first | rfl | omega | (simp_all; done) | (simp_all; omega)); done) | grind (splits := 40) [jlt, jix, jdv, jrd, v_X43_reckoned]))
end
