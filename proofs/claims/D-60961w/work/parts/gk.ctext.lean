/-! texts: fed and ended, both sides *-/
section jCtext
variable {s t u w : jS} {T U n k b c v a1 a2 a3 a4 a5 m : Int} {wg g : Int → Int}
/-- the bytes that are fed -/
noncomputable def fdB (v k : Int) : Int := (I_shr v (24 - 8 * k)) % 256
noncomputable def fdW (a b c d e k : Int) : Int := if k < 4 then fdB a k else if k < 8 then fdB b (k - 4) else if k < 12 then fdB c (k - 8) else if k < 16 then fdB d (k - 12) else fdB e (k - 16)
theorem fdW_lo {a b c d e : Int} : 0 ≤ fdW a b c d e k ∧ fdW a b c d e k < 256 := by
  unfold fdW fdB
  split
  · omega
  · split
    · omega
    · split
      · omega
      · split <;> omega
/-- only cells of the text are written -/
def txF (s u : jS) (c a : Int) : Prop := jSm s u ∧ ∀ c' a' k, ¬ (c' = c ∧ a' = a) → jf u c' a' k = jf s c' a' k
theorem txF.rfl : txF s s c a1 := ⟨jSm.rfl, fun _ _ _ _ => Eq.refl _⟩
theorem txF.jp (h : txF s u c a1) : txF s (jp u c a1 k v) c a1 := ⟨h.1.jp, fun c' a' k' z => by rw [jf_neg (fun q => z ⟨q.1, q.2.1⟩)]; exact h.2 c' a' k' z⟩
theorem txF.gw (h : txF s u c a1) : jGw s u 0 0 (fun z => z = a1) := by
  obtain ⟨⟨h1, h2, h3, h4, h5, h6, h7⟩, h8⟩ := h
  exact ⟨⟨by omega, by omega, by omega, h5, h6, h7⟩, fun a _ => ⟨by rw [h1], by rw [h2]⟩, fun c a k _ z => h8 c a k fun q => z q.2⟩
theorem c_feed : jE (m_X11_feed s T a1 a2 a3 a4 a5) fun q => txF s q.1 1001 (T + 1) ∧ ∀ k, 0 ≤ k → k < 20 → jf q.1 1001 (T + 1) k = sb (fdW a1 a2 a3 a4 a5 k) := by
  rw [em_X11_feed]; unfold dm_X11_feed
  rw [eu_X11_feed_3]; unfold du_X11_feed_3
  refine jS_for (fun k u => txF s u 1001 (T + 1) ∧ ∀ j, 0 ≤ j → j < k → jf u 1001 (T + 1) j = sb (fdW a1 a2 a3 a4 a5 j)) (fun k => [T, a1, a2, a3, a4, a5, k]) 0 20 (by decide) ⟨txF.rfl, fun j h1 h2 => by omega⟩ (fun k u k0 k1 ⟨e1, e2⟩ => ?_) (fun u ⟨e1, e2⟩ => ?_)
  · show jE (b_X11_feed_3 u T a1 a2 a3 a4 a5 k) _
    unfold b_X11_feed_3
    rw [if_pos k1]
    have key : ∀ v q : Int, (k = q ∨ k = q + 1 ∨ k = q + 2 ∨ k = q + 3) → q % 4 = 0 → fdW a1 a2 a3 a4 a5 k = fdB v (k - q) → u_X11_feed_62 u T a1 a2 a3 a4 a5 k v k (T + 1) = some (.inl (jp u 1001 (T + 1) k (sb (fdW a1 a2 a3 a4 a5 k)), [T, a1, a2, a3, a4, a5, k + 1])) := fun v q hq q4 hf => by
      rw [eu_X11_feed_62]; unfold du_X11_feed_62
      have h3 : I_and k 3 = k - q := by rw [I_and_3]; omega
      rw [jst_in (by omega) (by omega), Option.bind_some, h3, W32_in (z := 8 * (k - q)) (by omega) (by omega), W32_in (z := 24 - 8 * (k - q)) (by omega) (by omega), W32_in (by omega) (by omega), W8_W8, hf]
      rfl
    have fin : txF s (jp u 1001 (T + 1) k (sb (fdW a1 a2 a3 a4 a5 k))) 1001 (T + 1) ∧ ∀ j, 0 ≤ j → j < k + 1 → jf (jp u 1001 (T + 1) k (sb (fdW a1 a2 a3 a4 a5 k))) 1001 (T + 1) j = sb (fdW a1 a2 a3 a4 a5 j) := ⟨e1.jp, fun j j0 j1 => by
      by_cases cj : j = k
      · subst cj; rw [jf_pos ⟨rfl, rfl, rfl⟩]
      · rw [jf_neg (by omega)]; exact e2 j j0 (by omega)⟩
    by_cases c4 : k < 4
    · rw [if_pos c4]; rw [key a1 0 (by omega) (by decide) (by unfold fdW; rw [if_pos c4]; congr 1; omega)]; exact jS_end ⟨rfl, fin⟩
    rw [if_neg c4]
    by_cases c8 : k < 8
    · rw [if_pos c8]; rw [key a2 4 (by omega) (by decide) (by unfold fdW; rw [if_neg c4, if_pos c8])]; exact jS_end ⟨rfl, fin⟩
    rw [if_neg c8]
    by_cases c12 : k < 12
    · rw [if_pos c12]; rw [key a3 8 (by omega) (by decide) (by unfold fdW; rw [if_neg c4, if_neg c8, if_pos c12])]; exact jS_end ⟨rfl, fin⟩
    rw [if_neg c12]
    by_cases c16 : k < 16
    · rw [if_pos c16]; rw [key a4 12 (by omega) (by decide) (by unfold fdW; rw [if_neg c4, if_neg c8, if_neg c12, if_pos c16])]; exact jS_end ⟨rfl, fin⟩
    rw [if_neg c16]
    rw [key a5 16 (by omega) (by decide) (by unfold fdW; rw [if_neg c4, if_neg c8, if_neg c12, if_neg c16])]; exact jS_end ⟨rfl, fin⟩
  · show jE (b_X11_feed_3 u T a1 a2 a3 a4 a5 20) _
    unfold b_X11_feed_3
    rw [if_neg (by decide)]
    exact jS_inr (jS_end ⟨e1, e2⟩)
theorem t_wait {q : Int} (hq : 0 ≤ q ∧ q ≤ 16) : jE (m_X39_wait t U q v) fun r => txF t r.1 1000 (U + 1) ∧ ∀ k, jf r.1 1000 (U + 1) k = if q ≤ k ∧ k < q + 4 then fdB v (k - q) else jf t 1000 (U + 1) k := by
  rw [em_X39_wait]; unfold dm_X39_wait
  rw [eu_X39_wait_2]; unfold du_X39_wait_2
  refine jS_for (fun k u => txF t u 1000 (U + 1) ∧ ∀ j, jf u 1000 (U + 1) j = if q ≤ j ∧ j < q + k then fdB v (j - q) else jf t 1000 (U + 1) j) (fun k => [U, q, v, k]) 0 4 (by decide) ⟨txF.rfl, fun j => by rw [if_neg (by omega)]⟩ (fun k u k0 k1 ⟨e1, e2⟩ => ?_) (fun u ⟨e1, e2⟩ => ?_)
  · show jE (b_X39_wait_2 u U q v k) _
    unfold b_X39_wait_2
    rw [if_pos k1, W32_in (z := q + k) (by omega) (by omega), jst_in (by omega) (by omega), Option.bind_some, W32_in (z := 8 * k) (by omega) (by omega), W32_in (z := 24 - 8 * k) (by omega) (by omega), W32_in (by omega) (by omega), I_and_255]
    refine jS_end ⟨rfl, e1.jp, fun j => ?_⟩
    by_cases cj : j = q + k
    · subst cj; rw [jf_pos ⟨rfl, rfl, rfl⟩, if_pos (by omega), show q + k - q = k by omega]; rfl
    · rw [jf_neg (by omega), e2]
      by_cases d : q ≤ j ∧ j < q + k
      · rw [if_pos d, if_pos (by omega)]
      · rw [if_neg d, if_neg (by omega)]
  · show jE (b_X39_wait_2 u U q v 4) _
    unfold b_X39_wait_2
    rw [if_neg (by decide)]
    exact jS_inr (jS_end ⟨e1, e2⟩)
theorem txF.trans (h : txF s u c a1) (k : txF u w c a1) : txF s w c a1 := ⟨jSm.trans h.1 k.1, fun c' a' j z => (k.2 c' a' j z).trans (h.2 c' a' j z)⟩
/-- what feeding writes in the twin's text -/
def yFd (t w : jS) (U : Int) : Prop := jSm t w ∧ ∀ c a k, ¬ (c = 43 ∧ a = U ∧ (k = 0 ∨ k = 3)) → ¬ (c = 1000 ∧ (a = U + 1 ∨ a = U + 2)) → jf w c a k = jf t c a k
theorem y_feed : jE (m_X39_feed t U a1 a2 a3 a4 a5) fun q => yFd t q.1 U ∧ jf q.1 43 U 0 = 0 ∧ jf q.1 43 U 3 = jf t 43 U 3 ∧ (∀ k, jf q.1 1000 (U + 2) k = jf t 1000 (U + 2) k) ∧ ∀ k, 0 ≤ k → k < 20 → jf q.1 1000 (U + 1) k = fdW a1 a2 a3 a4 a5 k := by
  rw [em_X39_feed]; unfold dm_X39_feed
  simp only [jls]
  refine jS_call (t_wait (by decide)) fun q1 ⟨e1, f1⟩ => jS_call (t_wait (by decide)) fun q2 ⟨e2, f2⟩ => jS_call (t_wait (by decide)) fun q3 ⟨e3, f3⟩ => jS_call (t_wait (by decide)) fun q4 ⟨e4, f4⟩ => jS_call (t_wait (by decide)) fun q5 ⟨e5, f5⟩ => jS_end ?_
  have E := (((e1.trans e2).trans e3).trans e4).trans e5
  refine ⟨⟨(jSm.rfl.jp).trans E.1, fun c a k z z1 => by rw [E.2 _ _ _ (by omega), jf_neg (by omega)]⟩, by rw [E.2 _ _ _ (by omega), jf_pos ⟨rfl, rfl, rfl⟩], by rw [E.2 _ _ _ (by omega), jf_neg (by omega)], fun k => by rw [E.2 _ _ _ (by omega), jf_neg (by omega)], fun k k0 k1 => ?_⟩
  rw [f5, f4, f3, f2, f1]
  unfold fdW
  by_cases c4 : k < 4
  · rw [if_neg (by omega), if_neg (by omega), if_neg (by omega), if_neg (by omega), if_pos (by omega), if_pos c4]; congr 1; omega
  rw [if_neg c4]
  by_cases c8 : k < 8
  · rw [if_neg (by omega), if_neg (by omega), if_neg (by omega), if_pos (by omega), if_pos c8]
  rw [if_neg c8]
  by_cases c12 : k < 12
  · rw [if_neg (by omega), if_neg (by omega), if_pos (by omega), if_pos c12]
  rw [if_neg c12]
  by_cases c16 : k < 16
  · rw [if_neg (by omega), if_pos (by omega), if_pos c16]
  · rw [if_pos (by omega), if_neg c16]
end jCtext
