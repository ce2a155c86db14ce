/-! the linker: all labels are put, pure *-/
set_option maxRecDepth 100000
section jLal
variable {s t u w : jS} {a b k m n p v l x c f i H B C S K : Int} {O : Int → Int → Int → Int → Int} {d d' e z y : Int → Int → Int} {G A B' : Int → Int} {T T' : Int → Prop}
/-- labels that T tells are put at A, B' -/
noncomputable def dPs (d : Int → Int → Int) (T : Int → Prop) (A B' : Int → Int) : Int → Int → Int := fun f x => @ite _ (f = 12 ∧ T x) (Classical.propDecidable _) (A x) (@ite _ (f = 13 ∧ T x) (Classical.propDecidable _) (B' x) (d f x))
theorem dPs_ls : dLs d (dPs d T A B') := fun f x h1 h2 => by
  unfold dPs; rw [if_neg (fun q => h1 q.1), if_neg (fun q => h2 q.1)]
theorem dPs_cg (h : ∀ x, T' x ↔ T x) : dPs d T' A B' = dPs d T A B' := by
  have : T' = T := funext fun x => propext (h x)
  rw [this]
theorem dPs_no (h : ∀ x, ¬ T x) : dPs d T A B' = d := by
  funext f x; unfold dPs; rw [if_neg (fun q => h x q.2), if_neg (fun q => h x q.2)]
theorem dPs_st (h : ∀ x, T' x ↔ T x ∨ x = l) : dPs d T' A B' = dLp (dPs d T A B') l (A l) (B' l) := by
  funext f x
  unfold dLp
  by_cases c12 : f = 12 ∧ x = l
  · rw [if_pos c12]; unfold dPs
    rw [if_pos ⟨c12.1, (h x).mpr (.inr c12.2)⟩, c12.2]
  · rw [if_neg c12]
    by_cases c13 : f = 13 ∧ x = l
    · rw [if_pos c13]; unfold dPs
      rw [if_neg (by omega), if_pos ⟨c13.1, (h x).mpr (.inr c13.2)⟩, c13.2]
    · rw [if_neg c13]; unfold dPs
      have e12 : (f = 12 ∧ T' x) ↔ (f = 12 ∧ T x) := ⟨fun q => ⟨q.1, by
        rcases (h x).mp q.2 with z | z
        · exact z
        · exact absurd ⟨q.1, z⟩ c12⟩, fun q => ⟨q.1, (h x).mpr (.inl q.2)⟩⟩
      have e13 : (f = 13 ∧ T' x) ↔ (f = 13 ∧ T x) := ⟨fun q => ⟨q.1, by
        rcases (h x).mp q.2 with z | z
        · exact z
        · exact absurd ⟨q.1, z⟩ c13⟩, fun q => ⟨q.1, (h x).mpr (.inl q.2)⟩⟩
      by_cases a1 : f = 12 ∧ T x
      · rw [if_pos (e12.mpr a1), if_pos a1]
      · have a1' : ¬ (f = 12 ∧ T' x) := fun q => a1 (e12.mp q)
        rw [if_neg a1', if_neg a1]
        by_cases a2 : f = 13 ∧ T x
        · rw [if_pos (e13.mpr a2), if_pos a2]
        · have a2' : ¬ (f = 13 ∧ T' x) := fun q => a2 (e13.mp q)
          rw [if_neg a2', if_neg a2]
/-- a key's place, told once -/
noncomputable def lQ (S : Int) (O : Int → Int → Int → Int → Int) (e d z : Int → Int → Int) (G : Int → Int) (K : Int) : Int × Int := @dite _ (∃ p : Int × Int, lT S O e d z G K p.1 p.2) (Classical.propDecidable _) Classical.choose fun _ => (0, 0)
theorem lQ_of (h : lT S O e d z G K k a) : lT S O e d z G K (lQ S O e d z G K).1 (lQ S O e d z G K).2 := by
  have hx : ∃ p : Int × Int, lT S O e d z G K p.1 p.2 := ⟨(k, a), h⟩
  unfold lQ; rw [dif_pos hx]; exact Classical.choose_spec hx
/-- what is told depends on no label's place -/
theorem lT_ls (h : dLs d d') : lT S O e d' z G K k a ↔ lT S O e d z G K k a := by
  have s1 : ∀ X, syT S O d' z X k a ↔ syT S O d z X k a := fun X => by
    unfold syT pcA
    rw [h 3 _ (by decide) (by decide), h 4 _ (by decide) (by decide), h 5 _ (by decide) (by decide)]
  unfold lT
  rw [s1, s1, h 3 _ (by decide) (by decide)]
theorem pCt_ls (h : dLs d d') (g : pCt d z p a) : pCt d' z p a := by
  unfold pCt at *
  rw [h 3 _ (by decide) (by decide), h 4 _ (by decide) (by decide)]; exact g
theorem lpR.ls (h : lpR H S O t d z e G) (g : dLs d d') : lpR H S O t d' z e G := by
  have e0 := g 0 0 (by decide) (by decide)
  have e1 := g 0 1 (by decide) (by decide)
  refine ⟨fun v j v0 v1 hv j0 j1 => ?_, fun i i0 i1 hi => ?_, fun i i0 i1 => ?_⟩
  · obtain ⟨⟨q1, q2, q3⟩, q4⟩ := h.1 v j v0 v1 hv j0 j1
    exact ⟨⟨q1, by rw [g 1 _ (by decide) (by decide)]; exact q2, pCt_ls g q3⟩, by rw [e0]; exact q4⟩
  · obtain ⟨q1, q2, q3⟩ := h.2.1 i i0 i1 hi
    exact ⟨by rw [e0]; exact q1, by rw [g 1 _ (by decide) (by decide)]; exact q2, pCt_ls g q3⟩
  · rw [e1] at i1
    exact (h.2.2 i i0 i1).eq (fun _ _ _ => rfl) (g 5 _ (by decide) (by decide)) (g 6 _ (by decide) (by decide))
/-- one place only -/
theorem lT_one (hk : lkB C H S O s t) (gv : gFv S O e) (hR : lpR H S O t d z e G) (hX : vsy S O x) (h : lT S O e d z G (kyO O e x) k a) (g : lT S O e d z G (kyO O e x) m b) : k = m ∧ a = b := by
  by_cases c3 : sy O x 3 = 0
  · have h1 := (lT_lo hX c3).mp h
    have g1 := (lT_lo hX c3).mp g
    exact h1.one g1 (hR.sec hk hX h1.1.1 h1.1.2).2.1
  · have gg := gv.2.2 x ⟨hX, c3⟩
    have h1 := (lT_gl c3 gg.1).mp h
    have g1 := (lT_gl c3 gg.1).mp g
    by_cases c2 : e 3 (e 1 x) = 2
    · rw [if_pos c2] at h1 g1
      exact ⟨h1.1.trans g1.1.symm, h1.2.trans g1.2.symm⟩
    · rw [if_neg c2] at h1 g1
      obtain ⟨-, -, mo, -⟩ := gv.2.1 (e 1 x) gg.1 gg.2
      obtain ⟨⟨⟨hX4, -⟩, -⟩, -⟩ := mo h1.1
      exact h1.2.one g1.2 (hR.sec hk hX4 h1.2.1.1 h1.2.1.2).2.1
end jLal
