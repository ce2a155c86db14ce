/-! instructions: marks, on the twin's side -/
set_option maxRecDepth 100000
section jMarks
variable {s t u w : jS} {v A H b lo k c a x y f d n o j e kd mk : Int} {l : List Int} {NL : List (List Int)} {I : pI} {OL : List pvO} {SL : List pvS} {z : pvS} {zo : pvO}
/-- the marks that a kind may have, as bits -/
def mkBt (kd : Int) : Int := if kd = 0 then 2 else if kd = 1 then 8 else if kd = 3 then 20 else if kd < 10 then 0 else if 23 < kd then 0 else 20
theorem y_marks : m_X37_marksOf t kd = some (mkBt kd) := by
  rw [em_X37_marksOf]; unfold dm_X37_marksOf mkBt
  have e31 : u_X37_marksOf_31 t = some 20 := by
    rw [eu_X37_marksOf_31]; unfold du_X37_marksOf_31
    rw [eu_X37_marksOf_36]; unfold du_X37_marksOf_36
    rw [if_neg n10]
  have e35 : u_X37_marksOf_35 t = some 0 := by
    rw [eu_X37_marksOf_35]; unfold du_X37_marksOf_35
    rw [eu_X37_marksOf_36]; unfold du_X37_marksOf_36
    rw [if_pos rfl]
  rw [e31, e35]
  repeat' split
  all_goals rfl
/-- a mark that the twin lets pass -/
abbrev mkTw (kd mk : Int) : Prop := mk = 0 ∨ mk = 1 ∧ kd = 0 ∨ mk = 3 ∧ kd = 1 ∨ (mk = 2 ∨ mk = 4) ∧ (kd = 3 ∨ 10 ≤ kd ∧ kd ≤ 23)
theorem mk_bit (m0 : 1 ≤ mk) (m4 : mk ≤ 4) : I_and (I_shr (mkBt kd) mk) 1 = 1 ↔ mkTw kd mk := by
  have hM : mkBt kd = 2 ∧ kd = 0 ∨ mkBt kd = 8 ∧ kd = 1 ∨ mkBt kd = 20 ∧ (kd = 3 ∨ 10 ≤ kd ∧ kd ≤ 23) ∨ mkBt kd = 0 ∧ ¬ (kd = 0 ∨ kd = 1 ∨ kd = 3 ∨ 10 ≤ kd ∧ kd ≤ 23) := by
    unfold mkBt
    by_cases c0 : kd = 0
    · rw [if_pos c0]; omega
    rw [if_neg c0]
    by_cases c1 : kd = 1
    · rw [if_pos c1]; omega
    rw [if_neg c1]
    by_cases c3 : kd = 3
    · rw [if_pos c3]; omega
    rw [if_neg c3]
    by_cases c10 : kd < 10
    · rw [if_pos c10]; omega
    rw [if_neg c10]
    by_cases c23 : 23 < kd
    · rw [if_pos c23]; omega
    · rw [if_neg c23]; omega
  have hm : mk = 1 ∨ mk = 2 ∨ mk = 3 ∨ mk = 4 := by omega
  generalize mkBt kd = M at hM
  have hM' : M = 2 ∨ M = 8 ∨ M = 20 ∨ M = 0 := by omega
  rw [I_shr_bt (by omega) (by omega) (by omega)]
  have q : pbt M mk.toNat = 1 ↔ (M = 2 ∧ mk = 1 ∨ M = 8 ∧ mk = 3 ∨ M = 20 ∧ (mk = 2 ∨ mk = 4)) := by
    rcases hM' with rfl | rfl | rfl | rfl <;> rcases hm with rfl | rfl | rfl | rfl <;> decide
  rw [q]
  unfold mkTw
  omega
theorem y_isMk (h : AG s t A H b lo NL I OL SL k z) (j0 : 0 ≤ j) : m_X37_isMarkedSort t H j v kd = some (t, if j < z.2.2.2.1 ∧ (tO OL (z.2.2.1 + j)).1 = v ∧ mkTw kd (tO OL (z.2.2.1 + j)).2.2.1 then 1 else 0) := by
  rw [em_X37_isMarkedSort]; unfold dm_X37_isMarkedSort
  rw [h.2.1.2.2.2, Wz_0, Wz_1]
  by_cases j1 : j < z.2.2.2.1
  rotate_left
  · rw [if_neg j1, if_neg fun e => j1 e.1]
  obtain ⟨o1, o2, o3, og, o5⟩ := h.1.op j0 j1
  have so : m_X37_sortOf t H (W32 (jf t 41 H 45 + j)) = some (t, (tO OL (z.2.2.1 + j)).1) := by
    rw [em_X37_sortOf]; unfold dm_X37_sortOf
    rw [h.yop j0 j1 (by decide) (by decide), Option.bind_some]; rfl
  have mo : m_X37_markOf t H (W32 (jf t 41 H 45 + j)) = some (t, (tO OL (z.2.2.1 + j)).2.2.1) := by
    rw [em_X37_markOf]; unfold dm_X37_markOf
    rw [h.yop j0 j1 (by decide) (by decide), Option.bind_some]; rfl
  have mb := og.2.2.2.2.1
  rw [if_pos j1, so, Option.bind_some]
  dsimp only
  rw [mo, Option.bind_some]
  dsimp only
  rw [y_marks, Option.bind_some]
  generalize tO OL (z.2.2.1 + j) = zo at *
  by_cases c1 : zo.1 = v
  rotate_left
  · rw [if_neg c1, if_neg fun e => c1 e.2.1]
  rw [if_pos c1]
  by_cases c2 : zo.2.2.1 = 0
  · rw [if_pos c2, if_pos ⟨j1, c1, .inl c2⟩]
  rw [if_neg c2]
  have mk := mk_bit (kd := kd) (mk := zo.2.2.1) (by omega) (by omega)
  by_cases c3 : mkTw kd zo.2.2.1
  · rw [if_pos (mk.mpr c3), if_pos ⟨j1, c1, c3⟩]
  · rw [if_neg (fun e => c3 (mk.mp e)), if_neg fun e => c3 e.2.2]
end jMarks
