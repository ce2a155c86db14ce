/-! instructions: what a kind takes *-/
set_option maxRecDepth 100000
section jAbout
variable {s t u w t' s1 t1 : jS} {v A H b lo W V k c a hh x y f d n o j e m p pl g' : Int} {l : List Int} {NL : List (List Int)} {I : pI} {OL : List pvO} {SL : List pvS} {z : pvS} {zo : pvO} {Q Q' : jS → jS → Int → Prop} {q : jS × Bool × Int} {r : jS}
theorem c_about (h : pWA s W) (k0 : 0 ≤ k) (k1 : k < 75) : m_X2_about s W k 0 = some (cKd k.toNat).1 := by
  obtain ⟨e1, e2⟩ := h.at k0 k1
  have k11 : jK s (jf s 1008 (W + 23) k) = 11 := e2.1.2.2.1
  rw [em_X2_about]; unfold dm_X2_about
  rw [e_X2_isKind, Option.bind_some, if_pos (show ¬ k < 0 ∧ k < 75 by omega), if_neg n10, e1, Option.bind_some, if_pos rfl, jrd_in e2.1.1 k11, Option.bind_some, e2.2.1]
theorem pat_is : ∀ k : Nat, k < 75 → v_X38_patternOf k = (cKd k).1 ∧ 0 ≤ (cKd k).1 ∧ (cKd k).1 ≤ 16 := by decide +kernel
theorem t_about (hR : pRows t (V + 1)) (k0 : 0 ≤ k) (k1 : k < 75) : m_X38_about t V k 0 = some (jp t 42 V 0 0, (cKd k.toNat).1) := by
  rw [em_X38_about]; unfold dm_X38_about
  simp only [jls]
  have hR0 : pRows (jp t 42 V 0 0) (V + 1) := fun j a b => by rw [jf_jp, if_neg (by omega)]; exact hR j a b
  rw [e_X38_isKind, Option.bind_some, if_pos (show ¬ k < 0 ∧ k < 75 by omega), if_neg n10]
  generalize jp t 42 V 0 0 = t at hR0
  have key : ∀ (m : Nat) (i x : Int), 0 ≤ i → i + m = 4 → u_X38_about_19 t V k 0 x i = some (t, (cKd k.toNat).1) := by
    intro m
    induction m with
    | zero =>
      intro i x i0 hi
      rw [eu_X38_about_19]; unfold du_X38_about_19
      refine jlpW_r (r := some (t, (cKd k.toNat).1)) ?_
      show b_X38_about_19 t V k 0 x i = _
      unfold b_X38_about_19
      rw [if_neg (by omega), eu_X38_about_52]; unfold du_X38_about_52
      rw [if_pos rfl, e_X38_patternOf, Option.bind_some]
      have := (pat_is k.toNat (by omega)).1
      rw [Int.toNat_of_nonneg k0] at this
      rw [this]
    | succ m ih =>
      intro i x i0 hi
      have st : ∃ x', jc5 b_X38_about_19 [V, k, 0, x, i] t = some (.inl (t, [V, k, 0, x', i + 1])) := by
        show ∃ x', b_X38_about_19 t V k 0 x i = _
        unfold b_X38_about_19
        rw [if_pos (by omega), s_X38_has _ _ _ _ hR0 k0 k1 i0 (by omega), Option.bind_some, eu_X38_about_44]; unfold du_X38_about_44
        simp only [jlet]
        rw [W32_in (z := i + 1) (by omega) (by omega)]
        split <;> exact ⟨_, rfl⟩
      obtain ⟨x', hx'⟩ := st
      have := ih (i + 1) x' (by omega) (by omega)
      rw [eu_X38_about_19] at this ⊢; unfold du_X38_about_19 at this ⊢
      rw [jlpW_l hx']; exact this
  exact key 4 0 0 (by omega) (by omega)
end jAbout
