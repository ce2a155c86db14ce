/-! the linker: outputs' places, the component *-/
set_option maxRecDepth 100000
section jLou
variable {s t u w : jS} {a b k m n o p v l x c f i H B C S K X : Int} {d d' e z y : Int → Int → Int}
/-- once places are told, asking for an output's changes nothing -/
theorem c_output (h : cLd s B d) (h19 : jf s 40 B 19 = 1) (o0 : 0 ≤ o) (o1 : o < 4) (hx : x = 0 ∨ x = 1) : m_X36_output s B o x = some (s, if x = 0 then ouB d o else ouE d o) := by
  rw [em_X36_output]; unfold dm_X36_output
  rw [e_X36_in, if_pos (by omega), Option.bind_some, if_neg n10, e_X36_in, if_pos (by omega), Option.bind_some, if_neg n10, em_X36_lay]; unfold dm_X36_lay
  obtain ⟨q1, q2⟩ := h.2.2 o o0 o1
  rw [h19, if_neg (by decide), Option.bind_some]
  dsimp only
  by_cases c : x = 0
  · rw [if_pos c, if_pos c, jlt_in o0 o1, Option.bind_some, q1]
  · rw [if_neg c, if_neg c, jlt_in o0 o1, Option.bind_some, q2]
end jLou
