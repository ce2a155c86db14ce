/-! the made image: pages -/
section jImade2
variable {s t : jS} {O X b r x v : Int} {i i' : Int → Int → Int → Int}
theorem vIm.up (vi : vIm i) (b : Int) (h : b = 0 → jin v) (k : b = 1 → pP2 v) : vIm (iUp i 2 b v) := by
  obtain ⟨h1, h2, h3, h4⟩ := vi
  have e : ∀ a y z, a < 2 → iUp i 2 b v a y z = i a y z := fun a y z ha => iUp_ne (by omega)
  refine ⟨fun x x0 x1 => ?_, ?_, ?_, fun k k0 k1 => by rw [iUp_ne (by omega)]; exact h4 k k0 k1⟩
  · simp only [e 0 _ _ (show (0 : Int) < 2 by decide), e 1 _ _ (show (1 : Int) < 2 by decide)]; exact h1 x x0 x1
  · by_cases c : b = 0
    · subst c; rw [iUp_at]; exact h rfl
    · rw [iUp_ne (by omega)]; exact h2
  · by_cases c : b = 1
    · subst c; rw [iUp_at]; exact k rfl
    · rw [iUp_ne (by omega)]; exact h3
theorem i_page2 (hI : cIm s (O + 1) i) (h : tIm t X 0 i) : jE2 (m_X22_page s O v) (m_X42_page t X v) fun r q => r.2 = q.2 ∧ (¬ (0 ≤ v ∧ v ≤ 12) ∧ r = (s, 0) ∧ q = (t, 0) ∨ (0 ≤ v ∧ v ≤ 12) ∧ r = (jp s 27 (O + 1) 3 (I_shl 1 v), 1) ∧ q = (jp t 1000 (X + 8) 0 (I_shl 1 v), 1) ∧ cIm r.1 (O + 1) (iUp i 2 1 (I_shl 1 v)) ∧ tIm q.1 X 0 (iUp i 2 1 (I_shl 1 v))) := by
  rw [em_X22_page, em_X42_page]; unfold dm_X22_page dm_X42_page
  rw [e_X22_in, Option.bind_some]
  by_cases c : 0 ≤ v ∧ v ≤ 12
  · rw [if_pos (show ¬ (v < 0) ∧ ¬ (12 < v) by omega), if_neg (show ¬ (1 : Int) = 0 by decide), if_neg (show ¬ v < 0 by omega), if_neg (show ¬ 12 < v by omega), jst_in (by omega) (by omega), Option.bind_some]
    refine jE2_mk rfl rfl ⟨rfl, .inr ⟨c, by rw [Wz_1], by rw [Wz_1], ?_, ?_⟩⟩
    · obtain ⟨h1, h2, h3, h4, h5⟩ := hI
      exact ⟨fun y y0 y1 => ((h1 y y0 y1).keep fun c a k a0 a1 => jf_neg (by unfold vsg at a0; omega)).of fun a y z ha => iUp_ne (by omega), by rw [iUp_ne (by omega)]; (repeat (first | rw [jf_neg (by omega)] | rw [jf_pos (by omega)] | rw [ou_neg (by omega)] | rw [ou_pos (by omega)])); exact h2, by rw [iUp_at]; exact jf_pos ⟨rfl, rfl, rfl⟩, fun k k0 k1 => by rw [iUp_ne (by omega)]; (repeat (first | rw [jf_neg (by omega)] | rw [jf_pos (by omega)] | rw [ou_neg (by omega)] | rw [ou_pos (by omega)])); exact h4 k k0 k1, fun y y0 y1 => by rw [jf_neg (by omega)]; exact h5 y y0 y1⟩
    · obtain ⟨h1, h2, h3, h4⟩ := h
      exact ⟨fun y y0 y1 => ((h1 y y0 y1).kp fun c a k a0 a1 => jf_neg (by omega)).of fun a y z ha => iUp_ne (by omega), by rw [iUp_ne (by omega)]; (repeat (first | rw [jf_neg (by omega)] | rw [jf_pos (by omega)] | rw [ou_neg (by omega)] | rw [ou_pos (by omega)])); exact h2, by rw [iUp_at]; exact jf_pos ⟨rfl, rfl, rfl⟩, fun k k0 k1 => by rw [iUp_ne (by omega)]; (repeat (first | rw [jf_neg (by omega)] | rw [jf_pos (by omega)] | rw [ou_neg (by omega)] | rw [ou_pos (by omega)])); exact h4 k k0 k1⟩
  · rw [if_neg (show ¬ (¬ (v < 0) ∧ ¬ (12 < v)) by omega), if_pos rfl]
    by_cases d : v < 0
    · rw [if_pos d]; exact jE2_mk rfl rfl ⟨rfl, .inl ⟨c, by rw [Wz_0], by rw [Wz_0]⟩⟩
    · rw [if_neg d, if_pos (show 12 < v by omega)]; exact jE2_mk rfl rfl ⟨rfl, .inl ⟨c, by rw [Wz_0], by rw [Wz_0]⟩⟩
theorem pP2_shl (h : 0 ≤ v ∧ v ≤ 12) : pP2 (I_shl 1 v) := by
  rw [i_shl_p (by omega) (by omega)]
  have : v = 0 ∨ v = 1 ∨ v = 2 ∨ v = 3 ∨ v = 4 ∨ v = 5 ∨ v = 6 ∨ v = 7 ∨ v = 8 ∨ v = 9 ∨ v = 10 ∨ v = 11 ∨ v = 12 := by omega
  rcases this with e | e | e | e | e | e | e | e | e | e | e | e | e <;> subst e <;> rw [W32_in (by decide) (by decide)] <;> unfold pP2 <;> decide
end jImade2
