/-! names with a dot in front are directives' *-/
set_option maxRecDepth 100000
section jDot
variable {kd dr ot : Int} {l : List Int}
theorem dot_d : ∀ i : Nat, i < 16 → (cS (0 + i)).getD 0 0 = 46 := by decide +kernel
theorem dot_k : ∀ i : Nat, i < 75 → ¬ (cS (73 + i)).getD 0 0 = 46 := by decide +kernel
theorem dot_o : ∀ i : Nat, i < 25 → ¬ (cS (22 + i)).getD 0 0 = 46 := by decide +kernel
/-- with a dot it is a directive or nothing -/
theorem nmKn.dot (h : nmKn l kd dr ot) (hd : l.getD 0 0 = 46) : wV kd dr ot = if dr = -1 then -1 else 100 + dr := by
  obtain ⟨h1, h2, h3⟩ := h
  have k1 : kd = -1 := by
    rcases h1 with ⟨i, r1, r2, r3, -⟩ | ⟨r1, -⟩
    · exact absurd (by rw [← r3]; exact hd) (dot_k i r2)
    · exact r1
  have o1 : ot = -1 := by
    rcases h3 with ⟨i, r1, r2, r3, -⟩ | ⟨r1, -⟩
    · exact absurd (by rw [← r3]; exact hd) (dot_o i r2)
    · exact r1
  unfold wV
  rw [if_neg (show ¬ ¬ kd = -1 from fun e => e k1), o1]
  by_cases c : dr = -1
  · rw [if_neg (show ¬ ¬ dr = -1 from fun e => e c), if_neg (show ¬ ¬ (-1 : Int) = -1 from fun e => e rfl), if_pos c]
  · rw [if_pos c, if_neg c]
/-- without, it is none -/
theorem nmKn.nodot (h : nmKn l kd dr ot) (hd : ¬ l.getD 0 0 = 46) : dr = -1 ∧ wV kd dr ot = if ¬ kd = -1 then kd else if ¬ ot = -1 then 200 + ot else -1 := by
  obtain ⟨h1, h2, h3⟩ := h
  have d1 : dr = -1 := by
    rcases h2 with ⟨i, r1, r2, r3, -⟩ | ⟨r1, -⟩
    · exact absurd (by rw [r3]; exact dot_d i r2) hd
    · exact r1
  refine ⟨d1, ?_⟩
  unfold wV
  rw [d1]
  by_cases c : kd = -1
  · rw [if_neg (show ¬ ¬ kd = -1 from fun e => e c), if_neg (show ¬ ¬ (-1 : Int) = -1 from fun e => e rfl), if_neg (show ¬ ¬ kd = -1 from fun e => e c)]
  · rw [if_pos c, if_pos c]
end jDot
