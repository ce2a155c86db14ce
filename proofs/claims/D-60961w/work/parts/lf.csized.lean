/-! the linker: how large it may be, the component *-/
set_option maxRecDepth 100000
section jLsz
variable {s t u w : jS} {a b k m n o p v l x c f i H B C S K X : Int} {d d' e z y : Int → Int → Int}
/-- too large -/
def bgD (d : Int → Int → Int) : Prop := (∃ o, 0 ≤ o ∧ o < 3 ∧ 4096 < ouE d o - ouB d o) ∨ 32768 < ouE d 3 - ouE d 2
theorem c_sized (h : cLd s (C + 4275 + 1) d) (h19 : jf s 40 (C + 4275 + 1) 19 = 1) (v : vLy d) : (¬ bgD d ∧ m_X35_sized s (C + 4275) = some (s, false, 0)) ∨ (bgD d ∧ m_X35_sized s (C + 4275) = (m_X35_wrong s (C + 4275) 6 (-1) (-1)).bind fun q => jck0 q.2 (some (q.1, true, q.2))) := by
  have E0 : ∀ o, 0 ≤ o → o < 4 → m_X36_output s (C + 4275 + 1) o 0 = some (s, ouB d o) := fun o o0 o1 => by
    have := c_output (x := 0) h h19 o0 o1 (.inl rfl)
    rw [if_pos rfl] at this; exact this
  have E1 : ∀ o, 0 ≤ o → o < 4 → m_X36_output s (C + 4275 + 1) o 1 = some (s, ouE d o) := fun o o0 o1 => by
    have := c_output (x := 1) h h19 o0 o1 (.inr rfl)
    rw [if_neg (by decide)] at this; exact this
  have st : ∀ o, 0 ≤ o → o < 3 → b_X35_sized_2 s (C + 4275) o = if 4096 < ouE d o - ouB d o then jinr (u_X35_sized_32 s (C + 4275)) else some (.inl (s, [C + 4275, o + 1])) := fun o o0 o1 => by
    have b1 := ouB_lo v o0 (by omega)
    have b2 := ouE_lo v o0 (by omega)
    unfold b_X35_sized_2
    rw [if_pos o1, E1 o o0 (by omega), Option.bind_some, E0 o o0 (by omega), Option.bind_some]
    dsimp only
    rw [W32_in (by omega) (by omega), W32_in (by omega) (by omega)]
  rw [em_X35_sized]; unfold dm_X35_sized
  rw [eu_X35_sized_2]; unfold du_X35_sized_2
  rcases jseekW (C := jc2 b_X35_sized_2) (s := s) (fun o => [C + 4275, o]) (fun o => 4096 < ouE d o - ouB d o) (fun _ => u_X35_sized_32 s (C + 4275)) (u_X35_sized_47 s (C + 4275)) 0 3 (by decide) (fun o o0 o1 hk => by
    show b_X35_sized_2 s (C + 4275) o = _
    rw [st o o0 o1, if_neg hk]) (fun o o0 o1 hk => by
    show b_X35_sized_2 s (C + 4275) o = _
    rw [st o o0 o1, if_pos hk]) (by
    show b_X35_sized_2 s (C + 4275) 3 = _
    unfold b_X35_sized_2; rw [if_neg (by decide)]) with ⟨o, o0, o1, hk, -, er⟩ | ⟨hn, er⟩
  · rw [er, eu_X35_sized_32]; unfold du_X35_sized_32
    exact .inr ⟨.inl ⟨o, o0, o1, hk⟩, rfl⟩
  · have b1 := ouE_lo v (o := 2) (by decide) (by decide)
    have b2 := ouE_lo v (o := 3) (by decide) (by decide)
    have b3 := ouB_lo v (o := 2) (by decide) (by decide)
    have b4 := ouB_lo v (o := 3) (by decide) (by decide)
    rw [er, eu_X35_sized_47]; unfold du_X35_sized_47
    rw [E1 3 (by decide) (by decide), Option.bind_some, E1 2 (by decide) (by decide), Option.bind_some]
    dsimp only
    rw [W32_in (by omega) (by omega)]
    by_cases c : 32768 < ouE d 3 - ouE d 2
    · rw [if_pos c]; exact .inr ⟨.inr c, rfl⟩
    · rw [if_neg c]
      refine .inl ⟨fun q => ?_, rfl⟩
      rcases q with ⟨o, o0, o1, q⟩ | q
      · exact hn o o0 o1 q
      · exact c q
end jLsz
