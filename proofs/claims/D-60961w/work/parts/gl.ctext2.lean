/-! texts: ended, read, both sides *-/
section jCtext2
variable {s t u w : jS} {T U n k b c v a1 a2 a3 a4 a5 m lo : Int} {wg g : Int → Int} {NL : List (List Int)} {I : pI} {OL : List pvO} {SL : List pvS}
def gE (g : Int → Int) (n : Int) (wg : Int → Int) (m : Int) : Int → Int := fun k => if n ≤ k ∧ k < n + m then wg (k - n) else g k
def enG (n m : Int) : Prop := 0 ≤ m ∧ m ≤ 20 ∧ n + m ≤ 3000
/-- cells of the text object and its two rows -/
def txG (s u : jS) (T : Int) : Prop := jSm s u ∧ ∀ c a k, ¬ (c = 15 ∧ a = T ∧ k = 2) → ¬ (c = 1001 ∧ (a = T + 1 ∨ a = T + 2)) → jf u c a k = jf s c a k
theorem c_endT (hn : jf s 15 T 2 = n) (n0 : 0 ≤ n ∧ n ≤ 3000) (hw : ∀ k, 0 ≤ k → k < 20 → 0 ≤ wg k ∧ wg k < 256 ∧ jf s 1001 (T + 1) k = sb (wg k)) (hg : ∀ k, 0 ≤ k → k < n → jf s 1001 (T + 2) k = sb (g k)) : jE (m_X11_end s T m) fun q =>
    (¬ enG n m ∧ q = (s, -1)) ∨ (enG n m ∧ q.2 = n + m ∧ txG s q.1 T ∧ jf q.1 15 T 2 = n + m ∧ (∀ k, 0 ≤ k → k < 20 → jf q.1 1001 (T + 1) k = 0) ∧ ∀ k, 0 ≤ k → k < n + m → jf q.1 1001 (T + 2) k = sb (gE g n wg m k)) := by
  rw [em_X11_end]; unfold dm_X11_end
  by_cases c1 : m < 0
  · rw [if_pos c1]; exact jS_end (.inl ⟨fun z => by have := z.1; omega, rfl⟩)
  rw [if_neg c1]
  by_cases c2 : 20 < m
  · rw [if_pos c2]; exact jS_end (.inl ⟨fun z => by have := z.2.1; omega, rfl⟩)
  rw [if_neg c2, hn, W32_in (by omega) (by omega)]
  by_cases c3 : 3000 < n + m
  · rw [if_pos c3]; exact jS_end (.inl ⟨fun z => by have := z.2.2; omega, rfl⟩)
  rw [if_neg c3, eu_X11_end_26]; unfold du_X11_end_26
  refine jS_for (fun k u => txF s u 1001 (T + 2) ∧ ∀ j, jf u 1001 (T + 2) j = if n ≤ j ∧ j < n + k then sb (wg (j - n)) else jf s 1001 (T + 2) j) (fun k => [T, m, k]) 0 m (by omega) ⟨txF.rfl, fun j => by rw [if_neg (by omega)]⟩ (fun k u k0 k1 ⟨e1, e2⟩ => ?_) (fun u ⟨e1, e2⟩ => ?_)
  · show jE (b_X11_end_26 u T m k) _
    unfold b_X11_end_26
    have f1 : jf u 1001 (T + 1) k = sb (wg k) := by rw [e1.2 _ _ _ (by omega)]; exact (hw k k0 (by omega)).2.2
    have f2 : jf u 15 T 2 = n := by rw [e1.2 _ _ _ (by omega)]; exact hn
    have hwk := hw k k0 (by omega)
    rw [if_pos k1, jlt_in (by omega) (by omega), Option.bind_some, f1, f2, W32_in (z := n + k) (by omega) (by omega), jst_in (by omega) (by omega), Option.bind_some, W32_in (by omega) (by omega), W8_sb, sb_mod hwk.1 hwk.2.1]
    refine jS_end ⟨rfl, e1.jp, fun j => ?_⟩
    by_cases cj : j = n + k
    · subst cj; rw [jf_pos ⟨rfl, rfl, rfl⟩, if_pos (by omega), show n + k - n = k by omega]
    · rw [jf_neg (by omega), e2]
      by_cases d : n ≤ j ∧ j < n + k
      · rw [if_pos d, if_pos (by omega)]
      · rw [if_neg d, if_neg (by omega)]
  show jE (b_X11_end_26 u T m m) _
  unfold b_X11_end_26
  rw [if_neg (by omega), eu_X11_end_54]; unfold du_X11_end_54
  have f2 : jf u 15 T 2 = n := by rw [e1.2 _ _ _ (by omega)]; exact hn
  simp only [jls]
  rw [f2, W32_in (by omega) (by omega), eu_X11_end_66]; unfold du_X11_end_66
  refine jS_inr (jS_for (fun k v => txF (jp u 15 T 2 (n + m)) v 1001 (T + 1) ∧ ∀ j, 0 ≤ j → j < k → jf v 1001 (T + 1) j = 0) (fun k => [T, k]) 0 20 (by decide) ⟨txF.rfl, fun j h1 h2 => by omega⟩ (fun k v k0 k1 ⟨e3, e4⟩ => ?_) (fun v ⟨e3, e4⟩ => ?_))
  · show jE (b_X11_end_66 v T k) _
    unfold b_X11_end_66
    rw [if_pos k1, jst_in (by omega) (by omega), Option.bind_some, W32_in (by omega) (by omega), show W8 0 = 0 by rw [W8_sb]; rfl]
    refine jS_end ⟨rfl, e3.jp, fun j j0 j1 => ?_⟩
    by_cases cj : j = k
    · subst cj; rw [jf_pos ⟨rfl, rfl, rfl⟩]
    · rw [jf_neg (by omega)]; exact e4 j j0 (by omega)
  · show jE (b_X11_end_66 v T 20) _
    unfold b_X11_end_66
    rw [if_neg (by decide), eu_X11_end_85]; unfold du_X11_end_85
    have f3 : jf v 15 T 2 = n + m := by rw [e3.2 _ _ _ (by omega), jf_pos ⟨rfl, rfl, rfl⟩]
    refine jS_inr (jS_end (.inr ⟨by unfold enG; omega, f3, ⟨(e1.1.jp).trans e3.1, fun c a k z z1 => by rw [e3.2 _ _ _ (by omega), jf_neg (by omega), e1.2 _ _ _ (by omega)]⟩, f3, e4, fun j j0 j1 => ?_⟩))
    rw [e3.2 _ _ _ (by omega), jf_neg (by omega), e2]
    unfold gE
    by_cases d : n ≤ j ∧ j < n + m
    · rw [if_pos d, if_pos d]
    · rw [if_neg d, if_neg d]; exact hg j j0 (by omega)
theorem y_endT (hn : jf t 43 U 3 = n) (n0 : 0 ≤ n ∧ n ≤ 3000) (hw : ∀ k, 0 ≤ k → k < 20 → jf t 1000 (U + 1) k = wg k) (hg : ∀ k, 0 ≤ k → k < n → jf t 1000 (U + 2) k = g k) : jE (m_X39_end t U m) fun q =>
    (¬ enG n m ∧ q = (jp t 43 U 0 0, -1)) ∨ (enG n m ∧ q.2 = n + m ∧ yFd t q.1 U ∧ jf q.1 43 U 0 = 0 ∧ jf q.1 43 U 3 = n + m ∧ (∀ k, 0 ≤ k → k < 20 → jf q.1 1000 (U + 1) k = 0) ∧ ∀ k, 0 ≤ k → k < n + m → jf q.1 1000 (U + 2) k = gE g n wg m k) := by
  rw [em_X39_end]; unfold dm_X39_end
  simp only [jls]
  by_cases c1 : m < 0
  · rw [if_pos c1]; exact jS_end (.inl ⟨fun z => by have := z.1; omega, rfl⟩)
  rw [if_neg c1]
  by_cases c2 : 20 < m
  · rw [if_pos c2]; exact jS_end (.inl ⟨fun z => by have := z.2.1; omega, rfl⟩)
  rw [if_neg c2, jf_neg (by omega), hn, W32_in (by omega) (by omega)]
  by_cases c3 : 3000 < n + m
  · rw [if_pos c3]; exact jS_end (.inl ⟨fun z => by have := z.2.2; omega, rfl⟩)
  rw [if_neg c3, eu_X39_end_31]; unfold du_X39_end_31
  have h0 : ∀ c a j, ¬ (c = 43 ∧ a = U ∧ j = 0) → jf (jp t 43 U 0 0) c a j = jf t c a j := fun c a j z => jf_neg z
  have z0 : jf (jp t 43 U 0 0) 43 U 0 = 0 := jf_pos ⟨rfl, rfl, rfl⟩
  have sm0 : jSm t (jp t 43 U 0 0) := jSm.rfl.jp
  generalize jp t 43 U 0 0 = t0 at *
  refine jS_for (fun k u => txF t0 u 1000 (U + 2) ∧ ∀ j, jf u 1000 (U + 2) j = if n ≤ j ∧ j < n + k then wg (j - n) else jf t 1000 (U + 2) j) (fun k => [U, m, k]) 0 m (by omega) ⟨txF.rfl, fun j => by rw [if_neg (by omega), h0 _ _ _ (by omega)]⟩ (fun k u k0 k1 ⟨e1, e2⟩ => ?_) (fun u ⟨e1, e2⟩ => ?_)
  · show jE (b_X39_end_31 u U m k) _
    unfold b_X39_end_31
    have f1 : jf u 1000 (U + 1) k = wg k := by rw [e1.2 _ _ _ (by omega), h0 _ _ _ (by omega)]; exact hw k k0 (by omega)
    have f2 : jf u 43 U 3 = n := by rw [e1.2 _ _ _ (by omega), h0 _ _ _ (by omega)]; exact hn
    rw [if_pos k1, jlt_in (by omega) (by omega), Option.bind_some, f1, f2, W32_in (z := n + k) (by omega) (by omega), jst_in (by omega) (by omega), Option.bind_some, W32_in (by omega) (by omega)]
    refine jS_end ⟨rfl, e1.jp, fun j => ?_⟩
    by_cases cj : j = n + k
    · subst cj; rw [jf_pos ⟨rfl, rfl, rfl⟩, if_pos (by omega), show n + k - n = k by omega]
    · rw [jf_neg (by omega), e2]
      by_cases d : n ≤ j ∧ j < n + k
      · rw [if_pos d, if_pos (by omega)]
      · rw [if_neg d, if_neg (by omega)]
  show jE (b_X39_end_31 u U m m) _
  unfold b_X39_end_31
  rw [if_neg (by omega), eu_X39_end_59]; unfold du_X39_end_59
  rw [eu_X39_end_61]; unfold du_X39_end_61
  refine jS_inr (jS_for (fun k v => txF u v 1000 (U + 1) ∧ ∀ j, 0 ≤ j → j < k → jf v 1000 (U + 1) j = 0) (fun k => [U, m, k]) 0 20 (by decide) ⟨txF.rfl, fun j h1 h2 => by omega⟩ (fun k v k0 k1 ⟨e3, e4⟩ => ?_) (fun v ⟨e3, e4⟩ => ?_))
  · show jE (b_X39_end_61 v U m k) _
    unfold b_X39_end_61
    rw [if_pos k1, jst_in (by omega) (by omega), Option.bind_some, W32_in (by omega) (by omega)]
    refine jS_end ⟨rfl, e3.jp, fun j j0 j1 => ?_⟩
    by_cases cj : j = k
    · subst cj; rw [jf_pos ⟨rfl, rfl, rfl⟩]
    · rw [jf_neg (by omega)]; exact e4 j j0 (by omega)
  · show jE (b_X39_end_61 v U m 20) _
    unfold b_X39_end_61
    rw [if_neg (by decide), eu_X39_end_80]; unfold du_X39_end_80
    have f3 : jf v 43 U 3 = n := by rw [e3.2 _ _ _ (by omega), e1.2 _ _ _ (by omega), h0 _ _ _ (by omega)]; exact hn
    simp only [jls]
    rw [f3, W32_in (by omega) (by omega), jf_pos ⟨rfl, rfl, rfl⟩]
    refine jS_inr (jS_end (.inr ⟨by unfold enG; omega, rfl, ⟨((sm0.trans e1.1).trans e3.1).jp, fun c a k z z1 => by rw [jf_neg (by omega), e3.2 _ _ _ (by omega), e1.2 _ _ _ (by omega), h0 _ _ _ (by omega)]⟩, ?_, jf_pos ⟨rfl, rfl, rfl⟩, fun j j0 j1 => ?_, fun j j0 j1 => ?_⟩))
    · rw [jf_neg (by omega), e3.2 _ _ _ (by omega), e1.2 _ _ _ (by omega)]; exact z0
    · rw [jf_neg (by omega)]; exact e4 j j0 j1
    · rw [jf_neg (by omega), e3.2 _ _ _ (by omega), e2]
      unfold gE
      by_cases d : n ≤ j ∧ j < n + m
      · rw [if_pos d, if_pos d]
      · rw [if_neg d, if_neg d]; exact hg j j0 (by omega)
end jCtext2
