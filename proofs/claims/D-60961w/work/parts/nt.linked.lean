/-! the facade: what the latest linking told, both sides *-/
set_option maxRecDepth 100000
section jFld
variable {s t u w : jS} {a b k m n o p q v l x y c f g j H C S : Int}
/-- faults, and what went well, as both tell them -/
def lkD (C H : Int) (s t : jS) : Prop := (jf s 39 (C + 4275) 6 = jf t 41 H 99 ∧ (¬ jf t 41 H 99 = 0 → jf s 39 (C + 4275) 7 = jf t 41 H 100 ∧ jf s 39 (C + 4275) 8 = jf t 41 H 101) ∧ (jf t 41 H 99 = 0 → jf t 41 H 100 = -1 ∧ jf t 41 H 101 = -1)) ∧ jf s 39 (C + 4275) 46 = jf t 41 H 102 ∧ jf s 39 (C + 4275) 47 = jf t 41 H 103
theorem f_linked (h : lkD C H s t) : ∃ v, m_X1_linked s C x = some v ∧ m_X37_linked t H x = some (jp t 41 H 4 0, v) := by
  obtain ⟨⟨h1, h2, h3⟩, h4, h5⟩ := h
  rw [em_X1_linked, em_X37_linked]; unfold dm_X1_linked dm_X37_linked
  rw [jls_e]
  have f : ∀ k, ¬ k = 4 → jf (jp t 41 H 4 0) 41 H k = jf t 41 H k := fun k hk => jf_neg (by omega)
  by_cases c0 : x = 0
  · rw [if_pos c0, if_pos c0, f _ (by decide), h1]; exact ⟨_, rfl, rfl⟩
  rw [if_neg c0, if_neg c0]
  by_cases c1 : x = 1
  · rw [if_pos c1, if_pos c1, f _ (by decide)]
    by_cases z : jf s 39 (C + 4275) 6 = 0
    · rw [if_pos z, (h3 (by omega)).1]; exact ⟨_, rfl, rfl⟩
    · rw [if_neg z, (h2 (by omega)).1]; exact ⟨_, rfl, rfl⟩
  rw [if_neg c1, if_neg c1]
  by_cases c2 : x = 2
  · rw [if_pos c2, if_pos c2, f _ (by decide)]
    by_cases z : jf s 39 (C + 4275) 6 = 0
    · rw [if_pos z, (h3 (by omega)).2]; exact ⟨_, rfl, rfl⟩
    · rw [if_neg z, (h2 (by omega)).2]; exact ⟨_, rfl, rfl⟩
  rw [if_neg c2, if_neg c2]
  by_cases c3 : x = 3
  · rw [if_pos c3, if_pos c3, f _ (by decide), h4]; exact ⟨_, rfl, rfl⟩
  rw [if_neg c3, if_neg c3]
  by_cases c4 : x = 4
  · rw [if_pos c4, if_pos c4, f _ (by decide), h5]; exact ⟨_, rfl, rfl⟩
  rw [if_neg c4, if_neg c4]
  exact ⟨_, rfl, rfl⟩
/-- letters that are asked for -/
noncomputable def akB (A B : Int) (i : Int) : Int := L2i (L_and (L_shr (if i < 8 then A else B) (56 - 8 * (i % 8))) 255)
noncomputable def askL (A B : Int) : Nat → List Int
  | 0 => []
  | i + 1 => if akB A B i = 0 then askL A B i else askL A B i ++ [akB A B i]
theorem askL_len : ∀ i : Nat, (askL a b i).length ≤ i
  | 0 => Nat.le_refl _
  | i + 1 => by
    have := askL_len i
    show (if akB a b i = 0 then askL a b i else askL a b i ++ [akB a b i]).length ≤ i + 1
    split
    · omega
    · rw [List.length_append]; show _ + 1 ≤ _; omega
/-- its letters are a name's -/
def askM (L : List Int) (m : Int → Int) (n : Int) : Prop := ∀ j : Nat, j < L.length → (j : Int) < n ∧ m j = L.getD j 0
theorem askM_s {L : List Int} {m : Int → Int} : askM (L ++ [v]) m n ↔ askM L m n ∧ (L.length : Int) < n ∧ m L.length = v := by
  constructor
  · intro h
    refine ⟨fun j hj => ?_, ?_⟩
    · have := h j (by rw [List.length_append]; show j < _ + 1; omega)
      rw [getD_app, if_pos hj] at this; exact this
    · have := h L.length (by rw [List.length_append]; show _ < _ + 1; omega)
      rw [getD_app, if_neg (Nat.lt_irrefl _), Nat.sub_self] at this; exact this
  · intro ⟨h1, h2, h3⟩ j hj
    rw [List.length_append] at hj
    have hj : j < L.length + 1 := hj
    by_cases c : j < L.length
    · rw [getD_app, if_pos c]; exact h1 j c
    · have : j = L.length := by omega
      subst this
      rw [getD_app, if_neg (Nat.lt_irrefl _), Nat.sub_self]; exact ⟨h2, h3⟩
end jFld
