/-! the assembler: the stacks of values *-/
section jAsm6
variable {s t u v w s1 t1 : jS} {A H b lo N k i j o c a n p q r X Y d e m : Int} {NL : List (List Int)} {I : pI} {OL : List pvO} {SL : List pvS} {z : pvS}
/-- a value: a number, what is added, what is taken off -/
abbrev vT : Type := Int × Int × Int
theorem I_div_b (x y : Int) : jin (I_div x y) := by
  rw [I_div_eq]; unfold i_div jin
  exact ⟨Int32.le_toInt _, Int32.toInt_le _⟩
theorem I_rem_b (x y : Int) : jin (I_rem x y) := by
  rw [I_rem_eq]; unfold i_rem jin
  exact ⟨Int32.le_toInt _, Int32.toInt_le _⟩
/-- three rows at a place -/
def rd3 (s : jS) (p q r k : Int) : vT := (jf s 1000 p k, jf s 1000 q k, jf s 1000 r k)
def wr3 (s u : jS) (p q r k : Int) (x : vT) : Prop := jSm s u ∧ rd3 u p q r k = x ∧ ∀ c a j, ¬ (c = 1000 ∧ (a = p ∨ a = q ∨ a = r) ∧ j = k) → jf u c a j = jf s c a j
theorem rd3_eq {x : vT} (h1 : jf s 1000 p k = x.1) (h2 : jf s 1000 q k = x.2.1) (h3 : jf s 1000 r k = x.2.2) : rd3 s p q r k = x := by unfold rd3; rw [h1, h2, h3]
theorem wr3_of {x : vT} (hpq : ¬ p = q ∧ ¬ p = r ∧ ¬ q = r) : wr3 s (jp (jp (jp s 1000 p k x.1) 1000 q k x.2.1) 1000 r k x.2.2) p q r k x := by
  refine ⟨((jSm.rfl.jp).jp).jp, rd3_eq ?_ ?_ ?_, fun c a j z => by rw [jf_neg (by omega), jf_neg (by omega), jf_neg (by omega)]⟩
  · rw [jf_neg (by omega), jf_neg (by omega), jf_pos ⟨rfl, rfl, rfl⟩]
  · rw [jf_neg (by omega), jf_pos ⟨rfl, rfl, rfl⟩]
  · rw [jf_pos ⟨rfl, rfl, rfl⟩]
noncomputable def pTurn (x : vT) : vT := (W32 (-x.1), x.2.2, x.2.1)
def pPl (x : vT) : Prop := x.2.1 = -1 ∧ x.2.2 = -1
/-- two values can be added -/
def pAdG (x y : vT) : Prop := (x.2.1 = -1 ∨ y.2.1 = -1) ∧ (x.2.2 = -1 ∨ y.2.2 = -1)
noncomputable def pAd (x y : vT) : vT :=
  if (if x.2.1 = -1 then y.2.1 else x.2.1) = (if x.2.2 = -1 then y.2.2 else x.2.2) then (W32 (x.1 + y.1), -1, -1)
  else (W32 (x.1 + y.1), if x.2.1 = -1 then y.2.1 else x.2.1, if x.2.2 = -1 then y.2.2 else x.2.2)
def pReG (o : Int) (x y : vT) : Prop := pPl x ∧ pPl y ∧ ¬ (y.1 = 0 ∧ (o = 15 ∨ o = 16))
noncomputable def pRe (o : Int) (x y : vT) : vT := (v_X39_worked o x.1 y.1, -1, -1)
noncomputable def pNot (x : vT) : vT := (I_xor x.1 (-1), x.2.1, x.2.2)
theorem c_push {x : vT} (h : jf s 37 A 36 = m) (m0 : 0 ≤ m) (m1 : m < 2000) : ∃ u, m_X33_push s A x.1 x.2.1 x.2.2 = some (jp u 37 A 36 (m + 1), 0) ∧ wr3 s u (A + 23) (A + 24) (A + 25) m x := by
  refine ⟨_, ?_, wr3_of ⟨by omega, by omega, by omega⟩⟩
  rw [em_X33_push]; unfold dm_X33_push
  simp only [jls]
  rw [h, jst_in m0 m1, Option.bind_some, jf_neg (by omega), h, jst_in m0 m1, Option.bind_some, jf_neg (by omega), jf_neg (by omega), h, jst_in m0 m1, Option.bind_some, jf_neg (by omega), jf_neg (by omega), jf_neg (by omega), h, W32_in (by omega) (by omega)]
theorem c_turn (m0 : 0 ≤ m) (m1 : m < 2000) : ∃ u, m_X33_turn s A m = some (u, 0) ∧ wr3 s u (A + 23) (A + 24) (A + 25) m (pTurn (rd3 s (A + 23) (A + 24) (A + 25) m)) := by
  refine ⟨_, ?_, wr3_of ⟨by omega, by omega, by omega⟩⟩
  rw [em_X33_turn]; unfold dm_X33_turn
  rw [jlt_in m0 m1, Option.bind_some, jlt_in m0 m1, Option.bind_some, jst_in m0 m1, Option.bind_some, jlt_in m0 m1, Option.bind_some, jf_neg (by omega), jst_in m0 m1, Option.bind_some, jst_in m0 m1, Option.bind_some]
  rfl
theorem y_negate (m0 : 0 ≤ m) (m1 : m < 64) : ∃ u, m_X37_negate t H m = some (u, 0) ∧ wr3 t u (H + 163) (H + 164) (H + 165) m (pTurn (rd3 t (H + 163) (H + 164) (H + 165) m)) := by
  refine ⟨_, ?_, wr3_of ⟨by omega, by omega, by omega⟩⟩
  rw [em_X37_negate]; unfold dm_X37_negate
  rw [jlt_in m0 m1, Option.bind_some, jlt_in m0 m1, Option.bind_some, jst_in m0 m1, Option.bind_some, jlt_in m0 m1, Option.bind_some, jf_neg (by omega), jst_in m0 m1, Option.bind_some, jst_in m0 m1, Option.bind_some]
  rfl
theorem c_isPlainAt (m0 : 0 ≤ m) (m1 : m < 2000) : m_X33_isPlainAt s A m = some (@ite _ (pPl (rd3 s (A + 23) (A + 24) (A + 25) m)) (Classical.propDecidable _) 1 0) := by
  rw [em_X33_isPlainAt]; unfold dm_X33_isPlainAt
  rw [jlt_in m0 m1, Option.bind_some]
  by_cases c1 : jf s 1000 (A + 24) m = -1
  · rw [if_pos c1, jlt_in m0 m1, Option.bind_some]
    by_cases c2 : jf s 1000 (A + 25) m = -1
    · rw [if_pos c2, if_pos (show pPl (rd3 s (A + 23) (A + 24) (A + 25) m) from ⟨c1, c2⟩), Wz_1]
    · rw [if_neg c2, if_neg (show ¬ pPl (rd3 s (A + 23) (A + 24) (A + 25) m) from fun z => c2 z.2), Wz_0]
  · rw [if_neg c1, if_neg (show ¬ pPl (rd3 s (A + 23) (A + 24) (A + 25) m) from fun z => c1 z.1), Wz_0]
theorem y_isNumber (m0 : 0 ≤ m) (m1 : m < 64) : m_X37_isNumber t H m = some (@ite _ (pPl (rd3 t (H + 163) (H + 164) (H + 165) m)) (Classical.propDecidable _) 1 0) := by
  rw [em_X37_isNumber]; unfold dm_X37_isNumber
  rw [jlt_in m0 m1, Option.bind_some]
  by_cases c1 : jf t 1000 (H + 164) m = -1
  · rw [if_pos c1, jlt_in m0 m1, Option.bind_some]
    by_cases c2 : jf t 1000 (H + 165) m = -1
    · rw [if_pos c2, if_pos (show pPl (rd3 t (H + 163) (H + 164) (H + 165) m) from ⟨c1, c2⟩), Wz_1]
    · rw [if_neg c2, if_neg (show ¬ pPl (rd3 t (H + 163) (H + 164) (H + 165) m) from fun z => c2 z.2), Wz_0]
  · rw [if_neg c1, if_neg (show ¬ pPl (rd3 t (H + 163) (H + 164) (H + 165) m) from fun z => c1 z.1), Wz_0]
/-- the end of an addition -/
theorem c_add133 (m0 : 0 ≤ m) (m1 : m < 2000) : ∃ u, u_X33_addUp_133 s A m = some (u, false, 0) ∧ wr3 s u (A + 23) (A + 24) (A + 25) m (if jf s 1000 (A + 24) m = jf s 1000 (A + 25) m then (jf s 1000 (A + 23) m, -1, -1) else rd3 s (A + 23) (A + 24) (A + 25) m) := by
  rw [eu_X33_addUp_133]; unfold du_X33_addUp_133
  rw [jlt_in m0 m1, Option.bind_some, jlt_in m0 m1, Option.bind_some]
  by_cases c : jf s 1000 (A + 24) m = jf s 1000 (A + 25) m
  · rw [if_pos c, if_pos c, jst_in m0 m1, Option.bind_some, jst_in m0 m1, Option.bind_some]
    refine ⟨_, rfl, (jSm.rfl.jp).jp, rd3_eq ?_ ?_ ?_, fun c a j z => by rw [jf_neg (by omega), jf_neg (by omega)]⟩
    · rw [jf_neg (by omega), jf_neg (by omega)]
    · rw [jf_neg (by omega), jf_pos ⟨rfl, rfl, rfl⟩]
    · rw [jf_pos ⟨rfl, rfl, rfl⟩]
  · rw [if_neg c, if_neg c]
    exact ⟨s, rfl, jSm.rfl, rfl, fun _ _ _ _ => rfl⟩
theorem c_addUp (h : jf s 37 A 36 = m + 1) (m0 : 0 ≤ m) (m1 : m + 1 < 2000) (hg : pAdG (rd3 s (A + 23) (A + 24) (A + 25) m) (rd3 s (A + 23) (A + 24) (A + 25) (m + 1))) : ∃ u, m_X33_addUp s A j = some (u, false, 0) ∧ wr3 s u (A + 23) (A + 24) (A + 25) m (pAd (rd3 s (A + 23) (A + 24) (A + 25) m) (rd3 s (A + 23) (A + 24) (A + 25) (m + 1))) := by
  obtain ⟨g1, g2⟩ := hg
  have g1' : jf s 1000 (A + 24) m = -1 ∨ jf s 1000 (A + 24) (m + 1) = -1 := g1
  have g2' : jf s 1000 (A + 25) m = -1 ∨ jf s 1000 (A + 25) (m + 1) = -1 := g2
  have hk : W32 (jf s 37 A 36 - 1) = m := by rw [h, W32_in (by omega) (by omega)]; omega
  have e59 : ∃ u, u_X33_addUp_59 s A j m 1 A = some (u, false, 0) ∧ wr3 s u (A + 23) (A + 24) (A + 25) m (pAd (rd3 s (A + 23) (A + 24) (A + 25) m) (rd3 s (A + 23) (A + 24) (A + 25) (m + 1))) := by
    rw [eu_X33_addUp_59]; unfold du_X33_addUp_59
    rw [needAt1 (by decide), Option.bind_some]
    show ∃ u, (jth false _ _) = some (u, false, 0) ∧ _
    rw [jth_ff, jlt_in m0 (by omega), Option.bind_some, h, jlt_in (by omega) (by omega), Option.bind_some, jst_in m0 (by omega), Option.bind_some]
    obtain ⟨s1, E1⟩ : ∃ s1, s1 = jp s 1000 (A + 23) m (W32 (jf s 1000 (A + 23) m + jf s 1000 (A + 23) (m + 1))) := ⟨_, rfl⟩
    obtain ⟨f1, p1, -⟩ := jpF E1
    have sm1 : jSm s s1 := by rw [E1]; exact jSm.rfl.jp
    rw [← E1, jlt_in m0 (by omega), Option.bind_some, f1 1000 (A + 24) m (by omega)]
    have hs2 : ∃ s2, (if jf s 1000 (A + 24) m = -1 then (jlt s1 1000 (A + 24) 2000 (jf s1 37 A 36)).bind fun v6 => (jst s1 1000 (A + 24) 2000 m v6).bind fun s7 => u_X33_addUp_108 s7 A m else u_X33_addUp_108 s1 A m) = u_X33_addUp_108 s2 A m ∧ jSm s s2 ∧ jf s2 1000 (A + 24) m = (if jf s 1000 (A + 24) m = -1 then jf s 1000 (A + 24) (m + 1) else jf s 1000 (A + 24) m) ∧ jf s2 1000 (A + 23) m = W32 (jf s 1000 (A + 23) m + jf s 1000 (A + 23) (m + 1)) ∧ (∀ c a j, ¬ (c = 1000 ∧ (a = A + 23 ∨ a = A + 24) ∧ j = m) → jf s2 c a j = jf s c a j) := by
      by_cases c : jf s 1000 (A + 24) m = -1
      · rw [if_pos c, if_pos c, f1 37 A 36 (by omega), h, jlt_in (by omega) (by omega), Option.bind_some, f1 1000 (A + 24) (m + 1) (by omega), jst_in m0 (by omega), Option.bind_some]
        exact ⟨_, rfl, sm1.jp, jf_pos ⟨rfl, rfl, rfl⟩, by rw [jf_neg (by omega)]; exact p1, fun c a j z => by rw [jf_neg (by omega), f1 _ _ _ (by omega)]⟩
      · rw [if_neg c, if_neg c]
        exact ⟨s1, rfl, sm1, f1 _ _ _ (by omega), p1, fun c a j z => f1 _ _ _ (by omega)⟩
    obtain ⟨s2, e2, sm2, a2, n2, f2⟩ := hs2
    rw [e2, eu_X33_addUp_108]; unfold du_X33_addUp_108
    rw [jlt_in m0 (by omega), Option.bind_some, f2 1000 (A + 25) m (by omega)]
    have hs3 : ∃ s3, (if jf s 1000 (A + 25) m = -1 then (jlt s2 1000 (A + 25) 2000 (jf s2 37 A 36)).bind fun v2 => (jst s2 1000 (A + 25) 2000 m v2).bind fun s3 => u_X33_addUp_133 s3 A m else u_X33_addUp_133 s2 A m) = u_X33_addUp_133 s3 A m ∧ jSm s s3 ∧ jf s3 1000 (A + 25) m = (if jf s 1000 (A + 25) m = -1 then jf s 1000 (A + 25) (m + 1) else jf s 1000 (A + 25) m) ∧ jf s3 1000 (A + 24) m = jf s2 1000 (A + 24) m ∧ jf s3 1000 (A + 23) m = jf s2 1000 (A + 23) m ∧ (∀ c a j, ¬ (c = 1000 ∧ (a = A + 23 ∨ a = A + 24 ∨ a = A + 25) ∧ j = m) → jf s3 c a j = jf s c a j) := by
      by_cases c : jf s 1000 (A + 25) m = -1
      · rw [if_pos c, if_pos c, f2 37 A 36 (by omega), h, jlt_in (by omega) (by omega), Option.bind_some, f2 1000 (A + 25) (m + 1) (by omega), jst_in m0 (by omega), Option.bind_some]
        exact ⟨_, rfl, sm2.jp, jf_pos ⟨rfl, rfl, rfl⟩, jf_neg (by omega), jf_neg (by omega), fun c a j z => by rw [jf_neg (by omega), f2 _ _ _ (by omega)]⟩
      · rw [if_neg c, if_neg c]
        exact ⟨s2, rfl, sm2, f2 _ _ _ (by omega), rfl, rfl, fun c a j z => f2 _ _ _ (by omega)⟩
    obtain ⟨s3, e3, sm3, o3, a3, n3, f3⟩ := hs3
    rw [e3]
    obtain ⟨u, d1, d2, d3, d4⟩ := c_add133 (s := s3) (A := A) m0 (by omega : m < 2000)
    refine ⟨u, d1, sm3.trans d2, ?_, fun c a j z => by rw [d4 _ _ _ z]; exact f3 _ _ _ z⟩
    rw [d3, a3, a2, o3, n3, n2]
    unfold pAd
    show _ = if (if jf s 1000 (A + 24) m = -1 then jf s 1000 (A + 24) (m + 1) else jf s 1000 (A + 24) m) = (if jf s 1000 (A + 25) m = -1 then jf s 1000 (A + 25) (m + 1) else jf s 1000 (A + 25) m) then ((W32 (jf s 1000 (A + 23) m + jf s 1000 (A + 23) (m + 1)), -1, -1) : vT) else (W32 (jf s 1000 (A + 23) m + jf s 1000 (A + 23) (m + 1)), (if jf s 1000 (A + 24) m = -1 then jf s 1000 (A + 24) (m + 1) else jf s 1000 (A + 24) m), (if jf s 1000 (A + 25) m = -1 then jf s 1000 (A + 25) (m + 1) else jf s 1000 (A + 25) m))
    by_cases c : (if jf s 1000 (A + 24) m = -1 then jf s 1000 (A + 24) (m + 1) else jf s 1000 (A + 24) m) = (if jf s 1000 (A + 25) m = -1 then jf s 1000 (A + 25) (m + 1) else jf s 1000 (A + 25) m)
    · rw [if_pos c, if_pos c]
    · rw [if_neg c, if_neg c]
      unfold rd3
      rw [a3, a2, o3, n3, n2]
  have e54 : u_X33_addUp_54 s A j m A = u_X33_addUp_59 s A j m 1 A := by rw [eu_X33_addUp_54]; unfold du_X33_addUp_54; rfl
  have e31 : u_X33_addUp_31 s A j m A = u_X33_addUp_54 s A j m A := by
    rw [eu_X33_addUp_31]; unfold du_X33_addUp_31
    rw [jlt_in m0 (by omega), Option.bind_some]
    by_cases c : jf s 1000 (A + 25) m = -1
    · rw [if_pos c]
    · rw [if_neg c, h, jlt_in (by omega) (by omega), Option.bind_some, if_pos (by omega)]
  rw [em_X33_addUp]; unfold dm_X33_addUp
  simp only [jlet]
  rw [hk, jlt_in m0 (by omega), Option.bind_some]
  by_cases c : jf s 1000 (A + 24) m = -1
  · rw [if_pos c, e31, e54]; exact e59
  · rw [if_neg c, h, jlt_in (by omega) (by omega), Option.bind_some, if_pos (by omega), e31, e54]; exact e59
end jAsm6
