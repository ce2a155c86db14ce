/-! what operands are, both sides *-/
section jAskop
variable {s t u w : jS} {v A H b lo W k c a hh x y m f d n o j : Int} {l : List Int} {NL : List (List Int)} {I : pI} {OL : List pvO} {SL : List pvS} {z : pvS} {zo : pvO}
/-- an operand of a sort with no mark -/
abbrev opSr (v : Int) (zo : pvO) : Prop := zo.1 = v ∧ zo.2.2.1 = 0
/-- a name alone -/
abbrev nmOp (I : pI) (zo : pvO) : Prop := opSr 0 zo ∧ zo.2.2.2.2.1 = 1 ∧ (tI I zo.2.2.2.1).1 = 1
theorem ifC {p : Prop} [Decidable p] {q : Prop} [Decidable q] (h : p ↔ q) : (if p then (1 : Int) else 0) = if q then 1 else 0 := by
  by_cases c : p
  · rw [if_pos c, if_pos (h.mp c)]
  · rw [if_neg c, if_neg fun e => c (h.mpr e)]
theorem AG.cop (h : AG s t A H b lo NL I OL SL k z) (j0 : 0 ≤ j) (j1 : j < z.2.2.2.1) {w : Int} (w0 : 0 ≤ w) (w1 : w ≤ 6) : m_X11_operand s (A + (-3890)) (W32 (jf s 37 A 34 + j)) w = some (opQ1 (tO OL (z.2.2.1 + j)) w) := by
  obtain ⟨o1, o2, o3, o4, o5⟩ := h.1.op j0 j1
  have hl := h.1.2.1.len o1 o2
  have := h.1.st0
  rw [h.2.1.1, W32_in (by omega) (by omega), c_operand h.1.1.1 o1 o2 w0 w1 (by omega)]
theorem AG.yop (h : AG s t A H b lo NL I OL SL k z) (j0 : 0 ≤ j) (j1 : j < z.2.2.2.1) {w : Int} (w0 : 0 ≤ w) (w1 : w ≤ 6) : m_X39_operand t (H + 8) (W32 (jf t 41 H 45 + j)) w = some (t, opQ1 (tO OL (z.2.2.1 + j)) w) := by
  obtain ⟨o1, o2, o3, o4, o5⟩ := h.1.op j0 j1
  have := h.1.st0
  rw [h.2.1.2.1, W32_in (by omega) (by omega), y_operand h.1.2.1.1 o1 o2 w0 w1]
theorem c_isX (h : AG s t A H b lo NL I OL SL k z) (j0 : 0 ≤ j) (j1 : j < z.2.2.2.1) : m_X33_isExpression s A j = some (if opSr 0 (tO OL (z.2.2.1 + j)) then 1 else 0) := by
  rw [em_X33_isExpression]; unfold dm_X33_isExpression
  rw [h.cop j0 j1 (by decide) (by decide), Option.bind_some, h.cop j0 j1 (by decide) (by decide), Wz_0, Wz_1]
  show (if (tO OL (z.2.2.1 + j)).1 = 0 then (some (tO OL (z.2.2.1 + j)).2.2.1).bind _ else _) = _
  unfold opSr
  by_cases c1 : (tO OL (z.2.2.1 + j)).1 = 0
  · rw [if_pos c1, Option.bind_some]
    by_cases c2 : (tO OL (z.2.2.1 + j)).2.2.1 = 0
    · rw [if_pos c2, if_pos ⟨c1, c2⟩]
    · rw [if_neg c2, if_neg fun e => c2 e.2]
  · rw [if_neg c1, if_neg fun e => c1 e.1]
theorem c_isNm (h : AG s t A H b lo NL I OL SL k z) (j0 : 0 ≤ j) (j1 : j < z.2.2.2.1) : m_X33_isName s A j = some (if nmOp I (tO OL (z.2.2.1 + j)) then 1 else 0) := by
  obtain ⟨o1, o2, o3, o4, o5⟩ := h.1.op j0 j1
  have i2000 := h.1.2.1.1.2.2.2.1.2.1
  rw [em_X33_isName]; unfold dm_X33_isName
  rw [c_isX h j0 j1, Option.bind_some, h.cop j0 j1 (by decide) (by decide), h.cop j0 j1 (by decide) (by decide), Wz_0, Wz_1]
  unfold nmOp
  by_cases c1 : opSr 0 (tO OL (z.2.2.1 + j))
  rotate_left
  · rw [if_pos (show (if opSr 0 (tO OL (z.2.2.1 + j)) then (1 : Int) else 0) = 0 by rw [if_neg c1]), if_neg fun e => c1 e.1]
  rw [if_neg (show ¬ (if opSr 0 (tO OL (z.2.2.1 + j)) then (1 : Int) else 0) = 0 by rw [if_pos c1]; decide), Option.bind_some]
  show (if (tO OL (z.2.2.1 + j)).2.2.2.2.1 = 1 then _ else _) = _
  by_cases c2 : (tO OL (z.2.2.1 + j)).2.2.2.2.1 = 1
  rotate_left
  · rw [if_neg c2, if_neg fun e => c2 e.2.1]
  rw [if_pos c2, Option.bind_some]
  show (m_X11_item s (A + (-3890)) (tO OL (z.2.2.1 + j)).2.2.2.1 0).bind _ = _
  obtain ⟨⟨f0, f1, f2, f3⟩, -⟩ := o4
  have it := c_item h.1.1.1 (k := (tO OL (z.2.2.1 + j)).2.2.2.1) f0 (by omega) i2000 (.inl rfl)
  rw [if_pos rfl] at it
  rw [it, Option.bind_some]
  by_cases c3 : (tI I (tO OL (z.2.2.1 + j)).2.2.2.1).1 = 1
  · rw [if_pos c3, if_pos ⟨c1, c2, c3⟩]
  · rw [if_neg c3, if_neg fun e => c3 e.2.2]
/-- the name of an operand -/
def opNm (I : pI) (zo : pvO) : Int := (tI I zo.2.2.2.1).2
theorem opNm_in (h : AG s t A H b lo NL I OL SL k z) (j0 : 0 ≤ j) (j1 : j < z.2.2.2.1) (hn : nmOp I (tO OL (z.2.2.1 + j))) : 0 ≤ opNm I (tO OL (z.2.2.1 + j)) ∧ opNm I (tO OL (z.2.2.1 + j)) < NL.length := by
  obtain ⟨o1, o2, o3, ⟨⟨f0, f1, f2, f3⟩, -⟩, o5⟩ := h.1.op j0 j1
  obtain ⟨h1, h2, h3⟩ := hn
  have gd := tI_gd h.1.1.2.2.2.2.2.2.1 (i := (tO OL (z.2.2.1 + j)).2.2.2.1) f0 (by omega)
  unfold itGd at gd
  unfold opNm
  omega
theorem c_nmOf (h : AG s t A H b lo NL I OL SL k z) (j0 : 0 ≤ j) (j1 : j < z.2.2.2.1) (hn : nmOp I (tO OL (z.2.2.1 + j))) : m_X33_nameOf s A j = some (opNm I (tO OL (z.2.2.1 + j))) := by
  obtain ⟨o1, o2, o3, ⟨⟨f0, f1, f2, f3⟩, -⟩, o5⟩ := h.1.op j0 j1
  have i2000 := h.1.2.1.1.2.2.2.1.2.1
  obtain ⟨h1, h2, h3⟩ := hn
  rw [em_X33_nameOf]; unfold dm_X33_nameOf
  have it := c_item h.1.1.1 (k := (tO OL (z.2.2.1 + j)).2.2.2.1) f0 (by omega) i2000 (.inr rfl)
  rw [if_neg (by decide)] at it
  rw [h.cop j0 j1 (by decide) (by decide), Option.bind_some]
  show (m_X11_item s (A + (-3890)) (tO OL (z.2.2.1 + j)).2.2.2.1 1).bind _ = _
  rw [it, Option.bind_some]; rfl
theorem c_rgst (h : AG s t A H b lo NL I OL SL k z) (j0 : 0 ≤ j) (j1 : j < z.2.2.2.1) : m_X33_register s A j = some (tO OL (z.2.2.1 + j)).2.1 := by
  rw [em_X33_register]; unfold dm_X33_register
  rw [h.cop j0 j1 (by decide) (by decide), Option.bind_some]; rfl
-- the twin's
theorem y_isS (h : AG s t A H b lo NL I OL SL k z) (j0 : 0 ≤ j) : m_X37_isSort t H j v = some (t, if j < z.2.2.2.1 ∧ opSr v (tO OL (z.2.2.1 + j)) then 1 else 0) := by
  rw [em_X37_isSort]; unfold dm_X37_isSort
  rw [h.2.1.2.2.2, Wz_0, Wz_1]
  by_cases j1 : j < z.2.2.2.1
  rotate_left
  · rw [if_neg j1, if_neg fun e => j1 e.1]
  have so : m_X37_sortOf t H (W32 (jf t 41 H 45 + j)) = some (t, (tO OL (z.2.2.1 + j)).1) := by
    rw [em_X37_sortOf]; unfold dm_X37_sortOf
    rw [h.yop j0 j1 (by decide) (by decide), Option.bind_some]; rfl
  have mo : m_X37_markOf t H (W32 (jf t 41 H 45 + j)) = some (t, (tO OL (z.2.2.1 + j)).2.2.1) := by
    rw [em_X37_markOf]; unfold dm_X37_markOf
    rw [h.yop j0 j1 (by decide) (by decide), Option.bind_some]; rfl
  rw [if_pos j1, so, Option.bind_some]
  dsimp only
  unfold opSr
  by_cases c1 : (tO OL (z.2.2.1 + j)).1 = v
  · rw [if_pos c1, mo, Option.bind_some]
    dsimp only
    by_cases c2 : (tO OL (z.2.2.1 + j)).2.2.1 = 0
    · rw [if_pos c2, if_pos ⟨j1, c1, c2⟩]
    · rw [if_neg c2, if_neg fun e => c2 e.2.2]
  · rw [if_neg c1, if_neg fun e => c1 e.2.1]
theorem y_isN (h : AG s t A H b lo NL I OL SL k z) (j0 : 0 ≤ j) (j1 : j < z.2.2.2.1) : m_X37_isName t H j = some (t, if nmOp I (tO OL (z.2.2.1 + j)) then 1 else 0) := by
  obtain ⟨o1, o2, o3, ⟨⟨f0, f1, f2, f3⟩, -⟩, o5⟩ := h.1.op j0 j1
  rw [em_X37_isName]; unfold dm_X37_isName
  rw [y_isS h j0, Option.bind_some, Wz_0, Wz_1]
  dsimp only
  rw [h.yop j0 j1 (by decide) (by decide), Option.bind_some]
  dsimp only
  rw [h.yop j0 j1 (by decide) (by decide), Option.bind_some]
  dsimp only
  unfold nmOp
  by_cases c1 : opSr 0 (tO OL (z.2.2.1 + j))
  rotate_left
  · rw [if_pos (show (if j < z.2.2.2.1 ∧ opSr 0 (tO OL (z.2.2.1 + j)) then (1 : Int) else 0) = 0 by rw [if_neg fun e => c1 e.2]), if_neg fun e => c1 e.1]
  rw [if_neg (show ¬ (if j < z.2.2.2.1 ∧ opSr 0 (tO OL (z.2.2.1 + j)) then (1 : Int) else 0) = 0 by rw [if_pos ⟨j1, c1⟩]; decide)]
  show (if (tO OL (z.2.2.1 + j)).2.2.2.2.1 = 1 then (m_X39_item t (H + 8) (tO OL (z.2.2.1 + j)).2.2.2.1 0).bind _ else _) = _
  by_cases c2 : (tO OL (z.2.2.1 + j)).2.2.2.2.1 = 1
  rotate_left
  · rw [if_neg c2, if_neg fun e => c2 e.2.1]
  have it := y_item h.1.2.1.1 (k := (tO OL (z.2.2.1 + j)).2.2.2.1) f0 (by omega) (.inl rfl)
  rw [if_pos rfl] at it
  rw [if_pos c2, it, Option.bind_some]
  dsimp only
  by_cases c3 : (tI I (tO OL (z.2.2.1 + j)).2.2.2.1).1 = 1
  · rw [if_pos c3, if_pos ⟨c1, c2, c3⟩]
  · rw [if_neg c3, if_neg fun e => c3 e.2.2]
theorem y_nmAt (h : AG s t A H b lo NL I OL SL k z) (j0 : 0 ≤ j) (j1 : j < z.2.2.2.1) (hn : nmOp I (tO OL (z.2.2.1 + j))) : m_X37_nameAt t H j = some (t, opNm I (tO OL (z.2.2.1 + j))) := by
  obtain ⟨o1, o2, o3, ⟨⟨f0, f1, f2, f3⟩, -⟩, o5⟩ := h.1.op j0 j1
  obtain ⟨h1, h2, h3⟩ := hn
  rw [em_X37_nameAt]; unfold dm_X37_nameAt
  have it := y_item h.1.2.1.1 (k := (tO OL (z.2.2.1 + j)).2.2.2.1) f0 (by omega) (.inr rfl)
  rw [if_neg (by decide)] at it
  rw [h.yop j0 j1 (by decide) (by decide), Option.bind_some]
  show (m_X39_item t (H + 8) (tO OL (z.2.2.1 + j)).2.2.2.1 1).bind _ = _
  rw [it, Option.bind_some]; rfl
theorem y_rgst (h : AG s t A H b lo NL I OL SL k z) (j0 : 0 ≤ j) (j1 : j < z.2.2.2.1) : m_X37_registerOf t H (z.2.2.1 + j) = some (t, (tO OL (z.2.2.1 + j)).2.1) := by
  obtain ⟨o1, o2, o3, o4, o5⟩ := h.1.op j0 j1
  rw [em_X37_registerOf]; unfold dm_X37_registerOf
  rw [y_operand h.1.2.1.1 o1 o2 (by decide) (by decide), Option.bind_some]; rfl
/-- so many operands, of these sorts -/
theorem y_are (h : AG s t A H b lo NL I OL SL k z) {n0 v0 v1 v2 : Int} : m_X37_are t H n0 v0 v1 v2 = some (t, if z.2.2.2.1 = n0 ∧ (1 ≤ n0 → opSr v0 (tO OL z.2.2.1)) ∧ (2 ≤ n0 → opSr v1 (tO OL (z.2.2.1 + 1))) ∧ (3 ≤ n0 → opSr v2 (tO OL (z.2.2.1 + 2))) then 1 else 0) := by
  have e0 : z.2.2.1 + 0 = z.2.2.1 := by omega
  have s0 := y_isS (v := v0) h (j := 0) (by decide)
  have s1 := y_isS (v := v1) h (j := 1) (by decide)
  have s2 := y_isS (v := v2) h (j := 2) (by decide)
  rw [e0] at s0
  rw [em_X37_are]; unfold dm_X37_are
  rw [h.2.1.2.2.2, Wz_0]
  by_cases c : z.2.2.2.1 = n0
  rotate_left
  · rw [if_neg c, if_neg fun e => c e.1]
  rw [if_pos c, s0, Option.bind_some]
  have e36 : u_X37_are_36 t H n0 v2 = some (t, if (3 ≤ n0 → opSr v2 (tO OL (z.2.2.1 + 2))) then 1 else 0) := by
    rw [eu_X37_are_36]; unfold du_X37_are_36
    rw [s2, Option.bind_some, Wz_0, Wz_1]
    dsimp only
    by_cases c3 : n0 < 3
    · rw [if_pos c3, if_pos (show 3 ≤ n0 → opSr v2 (tO OL (z.2.2.1 + 2)) from fun e => by omega)]
    rw [if_neg c3]
    by_cases q : opSr v2 (tO OL (z.2.2.1 + 2))
    · rw [if_neg (show ¬ (if 2 < z.2.2.2.1 ∧ opSr v2 (tO OL (z.2.2.1 + 2)) then (1 : Int) else 0) = 0 by rw [if_pos ⟨by omega, q⟩]; decide), if_pos (show 3 ≤ n0 → opSr v2 (tO OL (z.2.2.1 + 2)) from fun _ => q)]
    · rw [if_pos (show (if 2 < z.2.2.2.1 ∧ opSr v2 (tO OL (z.2.2.1 + 2)) then (1 : Int) else 0) = 0 by rw [if_neg fun e => q e.2]), if_neg (show ¬ (3 ≤ n0 → opSr v2 (tO OL (z.2.2.1 + 2))) from fun e => q (e (by omega)))]
  have e22 : (1 ≤ n0 → opSr v0 (tO OL z.2.2.1)) → u_X37_are_22 t H n0 v1 v2 = some (t, if z.2.2.2.1 = n0 ∧ (1 ≤ n0 → opSr v0 (tO OL z.2.2.1)) ∧ (2 ≤ n0 → opSr v1 (tO OL (z.2.2.1 + 1))) ∧ (3 ≤ n0 → opSr v2 (tO OL (z.2.2.1 + 2))) then 1 else 0) := fun q0 => by
    rw [eu_X37_are_22]; unfold du_X37_are_22
    rw [s1, Option.bind_some, Wz_0]
    dsimp only
    by_cases c2 : n0 < 2
    · rw [if_pos c2, e36]
      rw [ifC (show _ ↔ z.2.2.2.1 = n0 ∧ (1 ≤ n0 → opSr v0 (tO OL z.2.2.1)) ∧ (2 ≤ n0 → opSr v1 (tO OL (z.2.2.1 + 1))) ∧ (3 ≤ n0 → opSr v2 (tO OL (z.2.2.1 + 2))) from ⟨fun e => ⟨c, q0, fun z => by omega, e⟩, fun e => e.2.2.2⟩)]
    rw [if_neg c2]
    by_cases q : opSr v1 (tO OL (z.2.2.1 + 1))
    · rw [if_neg (show ¬ (if 1 < z.2.2.2.1 ∧ opSr v1 (tO OL (z.2.2.1 + 1)) then (1 : Int) else 0) = 0 by rw [if_pos ⟨by omega, q⟩]; decide), e36]
      rw [ifC (show _ ↔ z.2.2.2.1 = n0 ∧ (1 ≤ n0 → opSr v0 (tO OL z.2.2.1)) ∧ (2 ≤ n0 → opSr v1 (tO OL (z.2.2.1 + 1))) ∧ (3 ≤ n0 → opSr v2 (tO OL (z.2.2.1 + 2))) from ⟨fun e => ⟨c, q0, fun _ => q, e⟩, fun e => e.2.2.2⟩)]
    · rw [if_pos (show (if 1 < z.2.2.2.1 ∧ opSr v1 (tO OL (z.2.2.1 + 1)) then (1 : Int) else 0) = 0 by rw [if_neg fun e => q e.2]), if_neg fun e => q (e.2.2.1 (by omega))]
  by_cases c1 : n0 < 1
  · rw [if_pos c1]; exact e22 fun e => by omega
  rw [if_neg c1]
  dsimp only
  by_cases q : opSr v0 (tO OL z.2.2.1)
  · rw [if_neg (show ¬ (if 0 < z.2.2.2.1 ∧ opSr v0 (tO OL z.2.2.1) then (1 : Int) else 0) = 0 by rw [if_pos ⟨by omega, q⟩]; decide)]
    exact e22 fun _ => q
  · rw [if_pos (show (if 0 < z.2.2.2.1 ∧ opSr v0 (tO OL z.2.2.1) then (1 : Int) else 0) = 0 by rw [if_neg fun e => q e.2]), if_neg fun e => q (e.2.1 (by omega))]
end jAskop
