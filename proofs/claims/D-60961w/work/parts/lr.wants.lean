/-! the linker: words that relocations want, both sides *-/
set_option maxRecDepth 100000
section jLwr
variable {s t u w' : jS} {a b n o p q v l x c f g i j H C K X W w r how : Int}
/-- kinds of words that a relocation takes -/
def tkW (how r : Int) : Prop := (how = 16 ∧ 4 ≤ r ∧ r < 10) ∨ (how = 17 ∧ r = 2) ∨ (how = 44 ∧ (r = 65 ∨ r = 66)) ∨ (how = 45 ∧ (r = 53 ∨ r = 64)) ∨ ((how = 24 ∨ how = 27) ∧ (r = 3 ∨ 10 ≤ r ∧ r < 15 ∨ 18 ≤ r ∧ r < 24)) ∨ ((how = 25 ∨ how = 28) ∧ 15 ≤ r ∧ r < 18) ∨ (how = 26 ∧ r = 0) ∨ ((how = 19 ∨ how = 23) ∧ r = 1)
abbrev hwK (how : Int) : Prop := how = 16 ∨ how = 17 ∨ how = 19 ∨ how = 23 ∨ how = 24 ∨ how = 25 ∨ how = 26 ∨ how = 27 ∨ how = 28 ∨ how = 44 ∨ how = 45
abbrev knS (k : Nat) : Prop := k ≤ 23 ∨ k = 53 ∨ k = 56 ∨ k = 64 ∨ k = 65 ∨ k = 66
theorem tkW_k (h : tkW how r) : 0 ≤ r ∧ r < 75 ∧ knS r.toNat ∧ (how = 44 ∨ how = 45 ↔ 48 ≤ r) := by
  unfold tkW at h; refine ⟨by omega, by omega, by omega, by omega⟩
theorem tk24 (q : how = 24 ∨ how = 27) : (r = 3 ∨ 10 ≤ r ∧ r < 15 ∨ 18 ≤ r ∧ r < 24) → tkW how r := fun h => by unfold tkW; omega
theorem c_wants (hh : hwK how) : ∃ y, m_X35_wants s l how r = some y ∧ (y = 0 ∨ y = 1) ∧ (y = 1 ↔ tkW how r) := by
  have one : ∀ (P : Prop) [Decidable P], (P ↔ tkW how r) → ∃ y, (if P then some (Wz 1) else some (Wz 0)) = some y ∧ (y = 0 ∨ y = 1) ∧ (y = 1 ↔ tkW how r) := fun P _ h => by
    by_cases c : P
    · rw [if_pos c, Wz_1]; exact ⟨1, rfl, .inr rfl, fun _ => h.mp c, fun _ => rfl⟩
    · rw [if_neg c, Wz_0]; exact ⟨0, rfl, .inl rfl, fun q => absurd q (by decide), fun q => absurd (h.mpr q) c⟩
  have ite : ∀ (P Q : Prop) [Decidable P] [Decidable Q], (¬ P ∧ Q ↔ tkW how r) → ∃ y, (if P then some (Wz 0) else if Q then some (Wz 1) else some (Wz 0)) = some y ∧ (y = 0 ∨ y = 1) ∧ (y = 1 ↔ tkW how r) := fun P Q _ _ h => by
    by_cases c : P
    · rw [if_pos c, Wz_0]; exact ⟨0, rfl, .inl rfl, fun q => absurd q (by decide), fun q => absurd c (h.mpr q).1⟩
    · rw [if_neg c]
      exact one Q ⟨fun q => h.mp ⟨c, q⟩, fun q => (h.mpr q).2⟩
  rw [em_X35_wants]; unfold dm_X35_wants
  have e184 : (how = 24 ∨ how = 27) → ∃ y, u_X35_wants_184 s r = some y ∧ (y = 0 ∨ y = 1) ∧ (y = 1 ↔ tkW how r) := fun q => by
    rw [eu_X35_wants_184]; unfold du_X35_wants_184
    have e201 : ¬ r = 3 → ¬ (10 ≤ r ∧ r < 15) → ∃ y, u_X35_wants_201 s r = some y ∧ (y = 0 ∨ y = 1) ∧ (y = 1 ↔ tkW how r) := fun c1 c2 => by
      rw [eu_X35_wants_201]; unfold du_X35_wants_201
      exact ite _ _ (by unfold tkW; omega)
    by_cases c1 : r = 3
    · rw [if_pos c1, Wz_1]; exact ⟨1, rfl, .inr rfl, fun _ => tk24 q (.inl c1), fun _ => rfl⟩
    rw [if_neg c1]
    by_cases c2 : r < 10
    · rw [if_pos c2]; exact e201 c1 (by omega)
    rw [if_neg c2]
    by_cases c3 : r < 15
    · rw [if_pos c3, Wz_1]; exact ⟨1, rfl, .inr rfl, fun _ => tk24 q (.inr (.inl ⟨Int.not_lt.mp c2, c3⟩)), fun _ => rfl⟩
    · rw [if_neg c3]; exact e201 c1 (by omega)
  have e219 : (how = 25 ∨ how = 28) → ∃ y, u_X35_wants_219 s r = some y ∧ (y = 0 ∨ y = 1) ∧ (y = 1 ↔ tkW how r) := fun q => by
    rw [eu_X35_wants_219]; unfold du_X35_wants_219
    exact ite _ _ (by unfold tkW; omega)
  have e247 : (how = 19 ∨ how = 23) → ∃ y, u_X35_wants_247 s r = some y ∧ (y = 0 ∨ y = 1) ∧ (y = 1 ↔ tkW how r) := fun q => by
    rw [eu_X35_wants_247]; unfold du_X35_wants_247
    exact one _ (by unfold tkW; omega)
  have isO : ∀ a b, (r = a ∨ r = b ↔ tkW how r) → ∃ y, ((m_X35_isOne s l r a b).bind fun v1 => some (Wz v1)) = some y ∧ (y = 0 ∨ y = 1) ∧ (y = 1 ↔ tkW how r) := fun a b h => by
    rw [em_X35_isOne]; unfold dm_X35_isOne
    by_cases c : r = a
    · rw [if_pos c, Option.bind_some, Wz_1, Wz_1]; exact ⟨1, rfl, .inr rfl, fun _ => h.mp (.inl c), fun _ => rfl⟩
    rw [if_neg c]
    by_cases c2 : r = b
    · rw [if_pos c2, Option.bind_some, Wz_1, Wz_1]; exact ⟨1, rfl, .inr rfl, fun _ => h.mp (.inr c2), fun _ => rfl⟩
    · rw [if_neg c2, Option.bind_some, Wz_0, Wz_0]; exact ⟨0, rfl, .inl rfl, fun q => absurd q (by decide), fun q => by have := h.mpr q; omega⟩
  rcases hh with rfl | rfl | rfl | rfl | rfl | rfl | rfl | rfl | rfl | rfl | rfl
  · simp only [eq_self, and_false, false_and, and_true, true_and, if_true, if_false, reduceIte, Int.reduceEq, Int.reduceLT, Int.reduceLE, Int.reduceNeg, not_false_eq_true, Option.bind_some, jls]; exact ite _ _ (by unfold tkW; omega)
  · simp only [eq_self, and_false, false_and, and_true, true_and, if_true, if_false, reduceIte, Int.reduceEq, Int.reduceLT, Int.reduceLE, Int.reduceNeg, not_false_eq_true, Option.bind_some, jls]; exact one _ (by unfold tkW; omega)
  · simp only [eq_self, and_false, false_and, and_true, true_and, if_true, if_false, reduceIte, Int.reduceEq, Int.reduceLT, Int.reduceLE, Int.reduceNeg, not_false_eq_true, Option.bind_some, jls]; exact e247 (by decide)
  · simp only [eq_self, and_false, false_and, and_true, true_and, if_true, if_false, reduceIte, Int.reduceEq, Int.reduceLT, Int.reduceLE, Int.reduceNeg, not_false_eq_true, Option.bind_some, jls]; exact e247 (by decide)
  · simp only [eq_self, and_false, false_and, and_true, true_and, if_true, if_false, reduceIte, Int.reduceEq, Int.reduceLT, Int.reduceLE, Int.reduceNeg, not_false_eq_true, Option.bind_some, jls]; exact e184 (by decide)
  · simp only [eq_self, and_false, false_and, and_true, true_and, if_true, if_false, reduceIte, Int.reduceEq, Int.reduceLT, Int.reduceLE, Int.reduceNeg, not_false_eq_true, Option.bind_some, jls]; exact e219 (by decide)
  · simp only [eq_self, and_false, false_and, and_true, true_and, if_true, if_false, reduceIte, Int.reduceEq, Int.reduceLT, Int.reduceLE, Int.reduceNeg, not_false_eq_true, Option.bind_some, jls]; exact one _ (by unfold tkW; omega)
  · simp only [eq_self, and_false, false_and, and_true, true_and, if_true, if_false, reduceIte, Int.reduceEq, Int.reduceLT, Int.reduceLE, Int.reduceNeg, not_false_eq_true, Option.bind_some, jls]; exact e184 (by decide)
  · simp only [eq_self, and_false, false_and, and_true, true_and, if_true, if_false, reduceIte, Int.reduceEq, Int.reduceLT, Int.reduceLE, Int.reduceNeg, not_false_eq_true, Option.bind_some, jls]; exact e219 (by decide)
  · simp only [eq_self, and_false, false_and, and_true, true_and, if_true, if_false, reduceIte, Int.reduceEq, Int.reduceLT, Int.reduceLE, Int.reduceNeg, not_false_eq_true, Option.bind_some, jls]; exact isO _ _ (by unfold tkW; omega)
  · simp only [eq_self, and_false, false_and, and_true, true_and, if_true, if_false, reduceIte, Int.reduceEq, Int.reduceLT, Int.reduceLE, Int.reduceNeg, not_false_eq_true, Option.bind_some, jls]; exact isO _ _ (by unfold tkW; omega)
theorem t_takes (hh : hwK how) : ∃ y, m_X37_takes t how r = some y ∧ (y = 0 ∨ y = 1) ∧ (y = 1 ↔ tkW how r) := by
  have one : ∀ (P : Prop) [Decidable P], (P ↔ tkW how r) → ∃ y, (if P then some (Wz 1) else some (Wz 0)) = some y ∧ (y = 0 ∨ y = 1) ∧ (y = 1 ↔ tkW how r) := fun P _ h => by
    by_cases c : P
    · rw [if_pos c, Wz_1]; exact ⟨1, rfl, .inr rfl, fun _ => h.mp c, fun _ => rfl⟩
    · rw [if_neg c, Wz_0]; exact ⟨0, rfl, .inl rfl, fun q => absurd q (by decide), fun q => absurd (h.mpr q) c⟩
  have two : ∀ (P Q : Prop) [Decidable P] [Decidable Q], (P ∧ Q ↔ tkW how r) → ∃ y, (if P then if Q then some (Wz 1) else some (Wz 0) else some (Wz 0)) = some y ∧ (y = 0 ∨ y = 1) ∧ (y = 1 ↔ tkW how r) := fun P Q _ _ h => by
    by_cases c : P
    · rw [if_pos c]
      exact one Q ⟨fun q => h.mp ⟨c, q⟩, fun q => (h.mpr q).2⟩
    · rw [if_neg c, Wz_0]; exact ⟨0, rfl, .inl rfl, fun q => absurd q (by decide), fun q => absurd (h.mpr q).1 c⟩
  rw [em_X37_takes]; unfold dm_X37_takes
  have e210 : (how = 24 ∨ how = 27) → ∃ y, u_X37_takes_210 t r = some y ∧ (y = 0 ∨ y = 1) ∧ (y = 1 ↔ tkW how r) := fun q => by
    rw [eu_X37_takes_210]; unfold du_X37_takes_210
    have e227 : ¬ r = 3 → ¬ (10 ≤ r ∧ r < 15) → ∃ y, u_X37_takes_227 t r = some y ∧ (y = 0 ∨ y = 1) ∧ (y = 1 ↔ tkW how r) := fun c1 c2 => by
      rw [eu_X37_takes_227]; unfold du_X37_takes_227
      exact two _ _ (by unfold tkW; omega)
    by_cases c1 : r = 3
    · rw [if_pos c1, Wz_1]; exact ⟨1, rfl, .inr rfl, fun _ => tk24 q (.inl c1), fun _ => rfl⟩
    rw [if_neg c1]
    by_cases c2 : 9 < r
    · rw [if_pos c2]
      by_cases c3 : r < 15
      · rw [if_pos c3, Wz_1]; exact ⟨1, rfl, .inr rfl, fun _ => tk24 q (.inr (.inl ⟨c2, c3⟩)), fun _ => rfl⟩
      · rw [if_neg c3]; exact e227 c1 (by omega)
    · rw [if_neg c2]; exact e227 c1 (by omega)
  have e245 : (how = 25 ∨ how = 28) → ∃ y, u_X37_takes_245 t r = some y ∧ (y = 0 ∨ y = 1) ∧ (y = 1 ↔ tkW how r) := fun q => by
    rw [eu_X37_takes_245]; unfold du_X37_takes_245
    exact two _ _ (by unfold tkW; omega)
  have e263 : (how = 19 ∨ how = 23) → ∃ y, u_X37_takes_263 t r = some y ∧ (y = 0 ∨ y = 1) ∧ (y = 1 ↔ tkW how r) := fun q => by
    rw [eu_X37_takes_263]; unfold du_X37_takes_263
    exact one _ (by unfold tkW; omega)
  have orr : ∀ (P Q : Prop) [Decidable P] [Decidable Q], (P ∨ Q ↔ tkW how r) → ∃ y, (if P then some (Wz 1) else if Q then some (Wz 1) else some (Wz 0)) = some y ∧ (y = 0 ∨ y = 1) ∧ (y = 1 ↔ tkW how r) := fun P Q _ _ h => by
    by_cases c : P
    · rw [if_pos c, Wz_1]; exact ⟨1, rfl, .inr rfl, fun _ => h.mp (.inl c), fun _ => rfl⟩
    · rw [if_neg c]
      exact one Q ⟨fun q => h.mp (.inr q), fun q => by rcases h.mpr q with z | z; exact absurd z c; exact z⟩
  rcases hh with rfl | rfl | rfl | rfl | rfl | rfl | rfl | rfl | rfl | rfl | rfl
  · simp only [eq_self, and_false, false_and, and_true, true_and, if_true, if_false, reduceIte, Int.reduceEq, Int.reduceLT, Int.reduceLE, Int.reduceNeg, not_false_eq_true, Option.bind_some, jls]; exact two _ _ (by unfold tkW; omega)
  · simp only [eq_self, and_false, false_and, and_true, true_and, if_true, if_false, reduceIte, Int.reduceEq, Int.reduceLT, Int.reduceLE, Int.reduceNeg, not_false_eq_true, Option.bind_some, jls]; exact one _ (by unfold tkW; omega)
  · simp only [eq_self, and_false, false_and, and_true, true_and, if_true, if_false, reduceIte, Int.reduceEq, Int.reduceLT, Int.reduceLE, Int.reduceNeg, not_false_eq_true, Option.bind_some, jls]; exact e263 (by decide)
  · simp only [eq_self, and_false, false_and, and_true, true_and, if_true, if_false, reduceIte, Int.reduceEq, Int.reduceLT, Int.reduceLE, Int.reduceNeg, not_false_eq_true, Option.bind_some, jls]; exact e263 (by decide)
  · simp only [eq_self, and_false, false_and, and_true, true_and, if_true, if_false, reduceIte, Int.reduceEq, Int.reduceLT, Int.reduceLE, Int.reduceNeg, not_false_eq_true, Option.bind_some, jls]; exact e210 (by decide)
  · simp only [eq_self, and_false, false_and, and_true, true_and, if_true, if_false, reduceIte, Int.reduceEq, Int.reduceLT, Int.reduceLE, Int.reduceNeg, not_false_eq_true, Option.bind_some, jls]; exact e245 (by decide)
  · simp only [eq_self, and_false, false_and, and_true, true_and, if_true, if_false, reduceIte, Int.reduceEq, Int.reduceLT, Int.reduceLE, Int.reduceNeg, not_false_eq_true, Option.bind_some, jls]; exact one _ (by unfold tkW; omega)
  · simp only [eq_self, and_false, false_and, and_true, true_and, if_true, if_false, reduceIte, Int.reduceEq, Int.reduceLT, Int.reduceLE, Int.reduceNeg, not_false_eq_true, Option.bind_some, jls]; exact e210 (by decide)
  · simp only [eq_self, and_false, false_and, and_true, true_and, if_true, if_false, reduceIte, Int.reduceEq, Int.reduceLT, Int.reduceLE, Int.reduceNeg, not_false_eq_true, Option.bind_some, jls]; exact e245 (by decide)
  · simp only [eq_self, and_false, false_and, and_true, true_and, if_true, if_false, reduceIte, Int.reduceEq, Int.reduceLT, Int.reduceLE, Int.reduceNeg, not_false_eq_true, Option.bind_some, jls]; exact orr _ _ (by unfold tkW; omega)
  · simp only [eq_self, and_false, false_and, and_true, true_and, if_true, if_false, reduceIte, Int.reduceEq, Int.reduceLT, Int.reduceLE, Int.reduceNeg, not_false_eq_true, Option.bind_some, jls]; exact orr _ _ (by unfold tkW; omega)
/-- immediates of these kinds -/
theorem immB {k : Nat} (hk : knS k) (h : pImm k v = true) : -1048576 ≤ v ∧ v ≤ 1048575 := by
  have : k = 0 ∨ k = 1 ∨ k = 2 ∨ k = 3 ∨ k = 4 ∨ k = 5 ∨ k = 6 ∨ k = 7 ∨ k = 8 ∨ k = 9 ∨ k = 10 ∨ k = 11 ∨ k = 12 ∨ k = 13 ∨ k = 14 ∨ k = 15 ∨ k = 16 ∨ k = 17 ∨ k = 18 ∨ k = 19 ∨ k = 20 ∨ k = 21 ∨ k = 22 ∨ k = 23 ∨ k = 53 ∨ k = 56 ∨ k = 64 ∨ k = 65 ∨ k = 66 := by omega
  rcases this with rfl | rfl | rfl | rfl | rfl | rfl | rfl | rfl | rfl | rfl | rfl | rfl | rfl | rfl | rfl | rfl | rfl | rfl | rfl | rfl | rfl | rfl | rfl | rfl | rfl | rfl | rfl | rfl | rfl
  · have := (pImm_0 v).mp h; omega
  · have := (pImm_1 v).mp h; omega
  · have := (pImm_2 v).mp h; omega
  · have := (pImm_3 v).mp h; omega
  · have := (pImm_4 v).mp h; omega
  · have := (pImm_5 v).mp h; omega
  · have := (pImm_6 v).mp h; omega
  · have := (pImm_7 v).mp h; omega
  · have := (pImm_8 v).mp h; omega
  · have := (pImm_9 v).mp h; omega
  · have := (pImm_10 v).mp h; omega
  · have := (pImm_11 v).mp h; omega
  · have := (pImm_12 v).mp h; omega
  · have := (pImm_13 v).mp h; omega
  · have := (pImm_14 v).mp h; omega
  · have := (pImm_15 v).mp h; omega
  · have := (pImm_16 v).mp h; omega
  · have := (pImm_17 v).mp h; omega
  · have := (pImm_18 v).mp h; omega
  · have := (pImm_19 v).mp h; omega
  · have := (pImm_20 v).mp h; omega
  · have := (pImm_21 v).mp h; omega
  · have := (pImm_22 v).mp h; omega
  · have := (pImm_23 v).mp h; omega
  · have := (pImm_53 v).mp h; omega
  · have := (pImm_56 v).mp h; omega
  · have := (pImm_64 v).mp h; omega
  · have := (pImm_65 v).mp h; omega
  · have := (pImm_66 v).mp h; omega
theorem has3 {k : Nat} (hk : knS k) : pHas k 3 = true := by
  have : k = 0 ∨ k = 1 ∨ k = 2 ∨ k = 3 ∨ k = 4 ∨ k = 5 ∨ k = 6 ∨ k = 7 ∨ k = 8 ∨ k = 9 ∨ k = 10 ∨ k = 11 ∨ k = 12 ∨ k = 13 ∨ k = 14 ∨ k = 15 ∨ k = 16 ∨ k = 17 ∨ k = 18 ∨ k = 19 ∨ k = 20 ∨ k = 21 ∨ k = 22 ∨ k = 23 ∨ k = 53 ∨ k = 56 ∨ k = 64 ∨ k = 65 ∨ k = 66 := by omega
  rcases this with rfl | rfl | rfl | rfl | rfl | rfl | rfl | rfl | rfl | rfl | rfl | rfl | rfl | rfl | rfl | rfl | rfl | rfl | rfl | rfl | rfl | rfl | rfl | rfl | rfl | rfl | rfl | rfl | rfl <;> decide
theorem immL {k : Nat} (hk : k = 3 ∨ 10 ≤ k ∧ k ≤ 23) : pImm k v = true ↔ -2048 ≤ v ∧ v ≤ 2047 := by
  have : k = 3 ∨ k = 10 ∨ k = 11 ∨ k = 12 ∨ k = 13 ∨ k = 14 ∨ k = 15 ∨ k = 16 ∨ k = 17 ∨ k = 18 ∨ k = 19 ∨ k = 20 ∨ k = 21 ∨ k = 22 ∨ k = 23 := by omega
  rcases this with rfl | rfl | rfl | rfl | rfl | rfl | rfl | rfl | rfl | rfl | rfl | rfl | rfl | rfl | rfl
  · exact ⟨fun h => by have := (pImm_3 v).mp h; omega, fun h => (pImm_3 v).mpr (by omega)⟩
  · exact ⟨fun h => by have := (pImm_10 v).mp h; omega, fun h => (pImm_10 v).mpr (by omega)⟩
  · exact ⟨fun h => by have := (pImm_11 v).mp h; omega, fun h => (pImm_11 v).mpr (by omega)⟩
  · exact ⟨fun h => by have := (pImm_12 v).mp h; omega, fun h => (pImm_12 v).mpr (by omega)⟩
  · exact ⟨fun h => by have := (pImm_13 v).mp h; omega, fun h => (pImm_13 v).mpr (by omega)⟩
  · exact ⟨fun h => by have := (pImm_14 v).mp h; omega, fun h => (pImm_14 v).mpr (by omega)⟩
  · exact ⟨fun h => by have := (pImm_15 v).mp h; omega, fun h => (pImm_15 v).mpr (by omega)⟩
  · exact ⟨fun h => by have := (pImm_16 v).mp h; omega, fun h => (pImm_16 v).mpr (by omega)⟩
  · exact ⟨fun h => by have := (pImm_17 v).mp h; omega, fun h => (pImm_17 v).mpr (by omega)⟩
  · exact ⟨fun h => by have := (pImm_18 v).mp h; omega, fun h => (pImm_18 v).mpr (by omega)⟩
  · exact ⟨fun h => by have := (pImm_19 v).mp h; omega, fun h => (pImm_19 v).mpr (by omega)⟩
  · exact ⟨fun h => by have := (pImm_20 v).mp h; omega, fun h => (pImm_20 v).mpr (by omega)⟩
  · exact ⟨fun h => by have := (pImm_21 v).mp h; omega, fun h => (pImm_21 v).mpr (by omega)⟩
  · exact ⟨fun h => by have := (pImm_22 v).mp h; omega, fun h => (pImm_22 v).mpr (by omega)⟩
  · exact ⟨fun h => by have := (pImm_23 v).mp h; omega, fun h => (pImm_23 v).mpr (by omega)⟩
theorem mod4_k : ∀ k : Nat, k < 75 → (k < 48 → pRow (32 * k) = 1 ∧ pRow (32 * k + 1) = 1) ∧ (48 ≤ k → pRow (32 * k) < 2 ∧ pRow (32 * k + 1) < 2 ∧ ¬ (pRow (32 * k) = 1 ∧ pRow (32 * k + 1) = 1)) := by decide +kernel
/-- a word of a kind is long or short as its kind -/
theorem pPut_m4 {k : Nat} (hk : k < 75) (p : jP4) : pPut k p % 4 = 3 ↔ k < 48 := by
  have hb : 2 ≤ pBits k := by unfold pBits; split <;> decide
  have b0 := pPut_bit k p 0 (by omega)
  have b1 := pPut_bit k p 1 (by omega)
  rw [Nat.add_zero] at b0
  have e4 : pPut k p % 4 = pbt (pPut k p) 0 + 2 * pbt (pPut k p) 1 := by
    unfold pbt
    have e1 : (2 : Int) ^ 0 = 1 := rfl
    have e2 : (2 : Int) ^ 1 = 2 := rfl
    rw [e1, e2]; omega
  obtain ⟨m1, m2⟩ := mod4_k k hk
  have pb0 : ∀ c : Nat, c < 2 → pb p c = c := fun c hc => by unfold pb; rw [if_pos hc]
  by_cases c : k < 48
  · obtain ⟨q1, q2⟩ := m1 c
    rw [e4, b0, b1, q1, q2, pb0 1 (by decide)]
    exact ⟨fun _ => c, fun _ => by decide⟩
  · obtain ⟨q1, q2, q3⟩ := m2 (by omega)
    rw [e4, b0, b1, pb0 _ q1, pb0 _ q2]
    exact ⟨fun z => by omega, fun z => absurd z c⟩
end jLwr
