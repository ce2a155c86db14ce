/-! the made image: entry and page -/
section jImade1
variable {s t : jS} {O X b r x v : Int} {i i' : Int → Int → Int → Int}
/-- an image with another number at a place -/
def iUp (i : Int → Int → Int → Int) (a b v : Int) : Int → Int → Int → Int := fun x y z => if x = a ∧ y = b ∧ z = 0 then v else i x y z
theorem iUp_at {a : Int} : iUp i a b v a b 0 = v := if_pos ⟨rfl, rfl, rfl⟩
theorem iUp_ne {a x y z : Int} (h : ¬ (x = a ∧ y = b ∧ z = 0)) : iUp i a b v x y z = i x y z := if_neg h
theorem cSg.of (h : cSg s v i x) (e : ∀ a y z, a < 2 → i' a y z = i a y z) : cSg s v i' x := by
  unfold cSg at h ⊢
  simp only [e 0 _ _ (show (0 : Int) < 2 by decide), e 1 _ _ (show (1 : Int) < 2 by decide)]; exact h
theorem tSg.of (h : tSg s X r i x) (e : ∀ a y z, a < 2 → i' a y z = i a y z) : tSg s X r i' x := by
  unfold tSg at h ⊢
  simp only [e 0 _ _ (show (0 : Int) < 2 by decide), e 1 _ _ (show (1 : Int) < 2 by decide)]; exact h
theorem tSg.kp (h : tSg s X r i x) (e : ∀ c a k, X + 1 ≤ a → a ≤ X + 5 → jf t c a k = jf s c a k) : tSg t X r i x := by
  obtain ⟨h1, h2⟩ := h
  exact ⟨by rw [e _ _ _ (by omega) (by omega)]; exact h1, fun c => by
    obtain ⟨a1, a2, a3, a4⟩ := h2 c
    exact ⟨by rw [e _ _ _ (by omega) (by omega)]; exact a1, by rw [e _ _ _ (by omega) (by omega)]; exact a2, by rw [e _ _ _ (by omega) (by omega)]; exact a3, fun k k0 k1 => by rw [e _ _ _ (by omega) (by omega)]; exact a4 k k0 k1⟩⟩
theorem i_entry2 (hI : cIm s (O + 1) i) (h : tIm t X 0 i) : jE2 (m_X22_entry s O v) (m_X42_entry t X v) fun r q => r.2 = q.2 ∧ r.1 = jp s 27 (O + 1) 2 v ∧ q.1 = jp t 1000 (X + 7) 0 v ∧ cIm r.1 (O + 1) (iUp i 2 0 v) ∧ tIm q.1 X 0 (iUp i 2 0 v) := by
  rw [em_X22_entry, em_X42_entry]; unfold dm_X22_entry dm_X42_entry
  rw [jst_in (by omega) (by omega), Option.bind_some]
  refine jE2_mk rfl rfl ⟨rfl, rfl, rfl, ?_, ?_⟩
  · obtain ⟨h1, h2, h3, h4, h5⟩ := hI.keep (t := s) fun c a k _ _ => rfl
    refine ⟨fun y y0 y1 => ((h1 y y0 y1).keep fun c a k a0 a1 => jf_neg (by unfold vsg at a0; omega)).of fun a y z ha => iUp_ne (by omega), by rw [iUp_at]; exact jf_pos ⟨rfl, rfl, rfl⟩, by rw [iUp_ne (by omega)]; (repeat (first | rw [jf_neg (by omega)] | rw [jf_pos (by omega)] | rw [ou_neg (by omega)] | rw [ou_pos (by omega)])); exact h3, fun k k0 k1 => by rw [iUp_ne (by omega)]; (repeat (first | rw [jf_neg (by omega)] | rw [jf_pos (by omega)] | rw [ou_neg (by omega)] | rw [ou_pos (by omega)])); exact h4 k k0 k1, fun y y0 y1 => by rw [jf_neg (by omega)]; exact h5 y y0 y1⟩
  · obtain ⟨h1, h2, h3, h4⟩ := h
    refine ⟨fun y y0 y1 => ?_, by rw [iUp_at]; exact jf_pos ⟨rfl, rfl, rfl⟩, by rw [iUp_ne (by omega)]; (repeat (first | rw [jf_neg (by omega)] | rw [jf_pos (by omega)] | rw [ou_neg (by omega)] | rw [ou_pos (by omega)])); exact h3, fun k k0 k1 => by rw [iUp_ne (by omega)]; (repeat (first | rw [jf_neg (by omega)] | rw [jf_pos (by omega)] | rw [ou_neg (by omega)] | rw [ou_pos (by omega)])); exact h4 k k0 k1⟩
    exact ((h1 y y0 y1).kp fun c a k a0 a1 => jf_neg (by omega)).of fun a y z ha => iUp_ne (by omega)
end jImade1
