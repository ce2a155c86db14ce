/-! the linker: what its frames keep: image, words, pools *-/
set_option maxRecDepth 100000
section jLks
variable {s t u w r s0 t0 s' t' : jS} {a b k m n o p q v l x y c f g j A H C S X P Q : Int} {O : Int → Int → Int → Int → Int} {d e z : Int → Int → Int} {i i' : Int → Int → Int → Int} {G : Int → Int → Int} {N : Int → Int}
theorem Lo_b44 : LocT 2101249 1 := .leaf rfl rfl
theorem Lo_b45 : LocT 2113537 1 := .leaf rfl rfl
theorem Lo_z43 : LocT 3147777 1 := .leaf rfl rfl
theorem Lo_47 : LocT 47 1 := .leaf rfl rfl
theorem Lo_i48 : LocT 1048580 1 := .leaf rfl rfl
theorem Lo_44 : LocT 44 2 := .st (by decide) rfl rfl fun e he => by
  rcases List.mem_cons.mp he with rfl | he
  · exact ⟨1, 1, rfl, Lo_b44, by decide, by decide⟩
  · cases he
theorem Lo_a44 : LocT 10485764 8 := .ar (by decide) rfl rfl Lo_44 (by decide) (by decide) (by decide)
theorem Lo_43 : LocT 43 9 := .st (by decide) rfl rfl fun e he => by
  rcases List.mem_cons.mp he with rfl | he
  · exact ⟨1, 8, rfl, Lo_a44, by decide, by decide⟩
  rcases List.mem_cons.mp he with rfl | he
  · exact ⟨2, 1, rfl, Lo_z43, by decide, by decide⟩
  · cases he
theorem Lo_45 : LocT 45 2 := .st (by decide) rfl rfl fun e he => by
  rcases List.mem_cons.mp he with rfl | he
  · exact ⟨1, 1, rfl, Lo_b45, by decide, by decide⟩
  · cases he
theorem Lo_46 : LocT 46 4 := .st (by decide) rfl rfl fun e he => by
  rcases List.mem_cons.mp he with rfl | he
  · exact ⟨1, 2, rfl, Lo_45, by decide, by decide⟩
  rcases List.mem_cons.mp he with rfl | he
  · exact ⟨3, 1, rfl, Lo_47, by decide, by decide⟩
  · cases he
theorem Lo_48 : LocT 48 12 := .st (by decide) rfl rfl fun e he => by
  rcases List.mem_cons.mp he with rfl | he
  · exact ⟨1, 9, rfl, Lo_43, by decide, by decide⟩
  rcases List.mem_cons.mp he with rfl | he
  · exact ⟨10, 1, rfl, Lo_47, by decide, by decide⟩
  rcases List.mem_cons.mp he with rfl | he
  · exact ⟨11, 1, rfl, Lo_i48, by decide, by decide⟩
  · cases he
theorem Lo_42 : LocT 42 37 := .st (by decide) rfl rfl fun e he => by
  rcases List.mem_cons.mp he with rfl | he
  · exact ⟨1, 9, rfl, Lo_43, by decide, by decide⟩
  rcases List.mem_cons.mp he with rfl | he
  · exact ⟨10, 9, rfl, Lo_43, by decide, by decide⟩
  rcases List.mem_cons.mp he with rfl | he
  · exact ⟨19, 2, rfl, Lo_45, by decide, by decide⟩
  rcases List.mem_cons.mp he with rfl | he
  · exact ⟨21, 4, rfl, Lo_46, by decide, by decide⟩
  rcases List.mem_cons.mp he with rfl | he
  · exact ⟨25, 12, rfl, Lo_48, by decide, by decide⟩
  · cases he
theorem lkA_no (hK : ∀ a, C ≤ a → a < C + 15464 → ¬ (70 ≤ jK s a ∧ jK s a ≤ 77)) (h0 : C ≤ a) (h1 : a < C + 15464) (q1 : ¬ (C + 4275 ≤ a ∧ a < C + 4316)) (q2 : a < C + 4316) (q3 : ¬ (a = C + 25 ∨ a = C + 26)) : ¬ lkA C s a := fun h => by
  unfold lkA fAt at h
  rcases h with ⟨v, v0, v1, z⟩ | z | z | z
  · omega
  · exact q1 z
  · exact q3 z
  · exact hK a h0 h1 z
/-- the images, left alone by the linker's frames -/
theorem imI.lf (h : imI C H s t) (h0 : 0 ≤ C ∧ C + 15464 ≤ jn s) (hK : ∀ a, C ≤ a → a < C + 15464 → ¬ (70 ≤ jK s a ∧ jK s a ≤ 77)) (g : jGw s u P Q (lkA C s)) (g' : tLF H t w) : imI C H u w := by
  obtain ⟨h1, h2, h3, h4⟩ := h
  have F : ∀ c a k, C + 3992 ≤ a → a < C + 4029 → jf u c a k = jf s c a k := fun c a k a0 a1 => g.2.2 c a k (by omega) (lkA_no hK (by omega) (by omega) (by omega) (by omega) (by omega))
  have T : jTt u 42 (C + 3992) := Lo_42 s u _ h1 g.1.1 fun x x0 x1 => ⟨g.K (by omega), g.N (by omega), fun k => g.F (by omega) (lkA_no hK (by omega) (by omega) (by omega) (by omega) (by omega)) k⟩
  obtain ⟨-, -, -, T3, -⟩ := T42 T
  refine ⟨T, fun x x0 x1 => ?_, fun x x0 x1 => ?_, h4.kp (fun c a k q => F _ _ _ (by omega) (by omega)) T3 (g'.2 _ _ _ (by omega) (by omega) (by omega) (by omega)) fun k => g'.2 _ _ _ (by omega) (by omega) (by omega) (by omega)⟩
  · rw [F _ _ _ (by unfold vsg; omega) (by unfold vsg; omega)]; exact h2 x x0 x1
  · rw [F _ _ _ (by unfold vsg; omega) (by unfold vsg; omega)]; exact h3 x x0 x1
theorem outK.gw {B : Int → Prop} (h : outK C s) (h1 : C + 15464 ≤ jn s) (g : jGw s u P Q B) : outK C u := fun o o0 o1 => by
  obtain ⟨q0, q1, q2⟩ := h o o0 o1
  rw [g.K (by omega), g.N (by omega)]; exact ⟨q0, q1, q2⟩
/-- words -/
theorem wrS.lf (h : wrS C H s t) (h1 : C + 15464 ≤ jn s) (g : jGw s u P Q (lkA C s)) (g' : tLF H t w) : wrS C H u w := by
  obtain ⟨⟨w1, w2⟩, w3, w4⟩ := h
  have k1 : jK s (C + 25) = 1000 := by have := w2.2.2.2.1.1; rw [show C + 1 + 24 = C + 25 by omega] at this; exact this
  have k2 : jK s (C + 26) = 1000 := by have := w2.2.2.2.1.2; rw [show C + 1 + 25 = C + 26 by omega] at this; exact this
  have g1 : jGw s u P Q (fun a => C + 4148 ≤ a ∨ jK s a = 1000 ∧ (a = C + 1 + 24 ∨ a = C + 1 + 25)) := g.mono (Int.le_refl _) (Int.le_refl _) fun a _ q => by
    unfold lkA fAt at q
    rcases q with ⟨v, v0, v1, z⟩ | z | z | z
    · exact .inl (by omega)
    · exact .inl (by omega)
    · rcases z with z | z
      · exact .inr ⟨by rw [z]; exact k1, by omega⟩
      · exact .inr ⟨by rw [z]; exact k2, by omega⟩
    · by_cases c : a < C + 15464
      · exact absurd z (w4 a c)
      · exact .inl (by omega)
  refine ⟨w1.gl w2 g1 fun a ha => ha, fun i i0 i1 => ?_, fun a ha => by rw [g.K (by omega)]; exact w4 a ha⟩
  rw [g'.2 _ _ _ (by omega) (by omega) (by omega) (by omega)]; exact w3 i i0 i1
theorem cBs.lf (h : cBs s (C + 4276)) (h1 : C + 15464 ≤ jn s) (g : cLF C s u P Q) : cBs u (C + 4276) := by
  obtain ⟨⟨b0, b1, b2, b3⟩, hp, h0⟩ := h
  have hn := g.1.n
  refine ⟨⟨b0, by omega, by rw [g.1.K (by omega)]; exact b2, by rw [g.1.N (by omega)]; exact b3⟩, ?_, by omega⟩
  have := g.2.2 (by rw [show C + 4275 + 1 = C + 4276 by omega]; exact hp)
  rw [show C + 4275 + 1 = C + 4276 by omega] at this; exact this
/-- both have read -/
theorem lkB.of (hS : lkSt C H s' G N t') (hj : rdJ C H S O s t 6 u w) (h0 : 0 ≤ C ∧ C + 15464 ≤ jn s) (hT : jTt s 17 C) (h107 : jf t 41 H 107 = S) (h99 : jf t 41 H 99 = 0) : lkB C H S O u w := by
  obtain ⟨⟨j1, j2⟩, j3, j4, j5, -⟩ := hj
  have T := T17 (hT.ext j2)
  refine ⟨⟨h0.1, by have := j1.1.n; omega⟩, j3, j4, fun x x0 x1 => T.2.2.2.2.2.2.2.2.2 x x0 x1, ?_, ?_⟩
  · rw [j5.2 _ _ _ (by omega) (by omega)]; exact h107
  · rw [j5.2 _ _ _ (by omega) (by omega)]; exact h99
end jLks
