/-! a file is copied (component), given to a reader (twin); check -/
section jCopy
variable {s t u : jS} {C T O X A B n m k b v i x : Int} {g g' : Int → Int}
theorem shl56 (x : Int) : bE (L_shl x 56) 0 = x % 256 := by
  unfold bE
  rw [show (56 : Int) - 8 * 0 = 56 by omega, l_shl_p (by omega) (by omega), l_shr_p (W64_lo _) (by omega) (by omega), W64_m, l2i_p]
  have h1 := W32_mod ((x * 2 ^ (56 : Int).toNat).bmod 18446744073709551616 / 2 ^ (56 : Int).toNat)
  have e : (2 : Int) ^ (56 : Int).toNat = 72057594037927936 := by decide
  rw [e] at h1 ⊢
  have h2 : ((x * 72057594037927936).bmod 18446744073709551616 / 72057594037927936) % 256 = x % 256 := by
    unfold Int.bmod
    simp only []
    split <;> omega
  omega
theorem fB.eq (h : fB s B g n) (e : ∀ i, 0 ≤ i → i < n → g' i = g i) : fB s B g' n := by
  obtain ⟨⟨h1, h2, h3⟩, h4, h5⟩ := h
  rcases h3 with h3 | h3
  · exact ⟨⟨h1, h2, .inl ⟨h3.1, h3.2.1, h3.2.2.1, fun i i0 i1 => by rw [e i i0 i1]; exact h3.2.2.2 i i0 i1⟩⟩, h4, h5⟩
  · omega
/-- one byte more -/
theorem c_feed1 (h : fB s (O + 1229) g n) (hn : n < 8192) (hg : g n = x % 256) : jE (m_X13_feed s O 1 (L_shl x 56)) fun q => q.2 = 1 ∧ jFx s q.1 (O + 1229) 2 ∧ fB q.1 (O + 1229) g (n + 1) := by
  have hl := h.len
  refine jE_mono (c_ffeed (m := 1) (v := L_shl x 56) h) fun q hq => ?_
  rcases hq with ⟨d, r1, r2, r3⟩ | ⟨d, -⟩
  · refine ⟨r1, r2, r3.eq fun i i0 i1 => ?_⟩
    unfold gFd
    by_cases c : i = n
    · subst c; rw [if_pos (by omega), show i - i = 0 by omega, shl56, hg]
    · rw [if_neg (by omega)]
  · omega
theorem c_fcut0 (h : fB s (O + 1229) g n) (g' : Int → Int) : jE (m_X13_cut s O 0) fun q => jFx s q.1 (O + 1229) 2 ∧ fB q.1 (O + 1229) g' 0 := by
  have hl := h.len
  refine jE_mono (c_fcut (m := 0) h) fun q hq => ?_
  rcases hq with ⟨d, r1, r2, r3⟩ | ⟨d, -⟩
  · exact ⟨r2, r3.eq fun i i0 i1 => by omega⟩
  · omega
theorem c_copy (h1 : fB s (A + 1229) g n) (t1 : jTt s 33 A) (h2 : fB s (B + 1229) g' m) (t2 : jTt s 33 B) (hd : A + 2 ≤ B ∨ B + 2 ≤ A) : jE (m_X1_copy s A B) fun q => jFx s q.1 (B + 1229) 2 ∧ fB q.1 (B + 1229) g n := by
  have hl := h1.len
  rw [em_X1_copy]; unfold dm_X1_copy
  rw [jct_in t2]
  refine jS_call (c_fcut0 h2 g) fun q ⟨r1, r2⟩ => ?_
  rw [eu_X1_copy_8]; unfold du_X1_copy_8
  refine jS_for (fun k u => jFx s u (B + 1229) 2 ∧ fB u (B + 1229) g k) (fun k => [A, B, k]) 0 n hl.1 ⟨r1, r2⟩ (fun k u k0 k1 ⟨e1, e2⟩ => ?_) (fun u ⟨e1, e2⟩ => ?_)
  · show jE (b_X1_copy_8 u A B k) _
    unfold b_X1_copy_8
    have ha : fB u (A + 1229) g n := h1.kf e1 (by omega)
    rw [jct_in (t1.ext e1.2), c_fsize ha, Option.bind_some, if_pos k1, jct_in (t1.ext e1.2), c_fbyte ha, if_pos ⟨k0, k1⟩, Option.bind_some, jct_in (t2.ext e1.2), W32_in (by omega) (by omega)]
    have hg := ha.by k k0 k1
    refine jS_call (c_feed1 (x := g k) e2 (by omega) (by omega)) fun q ⟨_, p1, p2⟩ => ?_
    exact jS_end ⟨rfl, e1.trans p1, p2⟩
  · show jE (b_X1_copy_8 u A B n) _
    unfold b_X1_copy_8
    have ha : fB u (A + 1229) g n := h1.kf e1 (by omega)
    rw [jct_in (t1.ext e1.2), c_fsize ha, Option.bind_some, if_neg (by omega)]
    exact jS_inr (jS_end ⟨e1, e2⟩)
/-- the twin gives a unit's file to a reader -/
def tGv (t q : jS) (X : Int) : Prop := jSm t q ∧ ∀ c a k, ¬ (c = 44 ∧ a = X ∧ k = 22) → ¬ (c = 1000 ∧ a = X + 21) → jf q c a k = jf t c a k
theorem T_give (hs : jf t 1000 (T + 2) x = n) (hr : fRow t (T + 1) (8192 * x) g n) (n0 : 0 ≤ n) (n1 : n ≤ 8192) (x0 : 0 ≤ x) (x1 : x < 6) (hd : T + 2 < X) : jE (m_X37_give t T X x) fun q => tGv t q.1 X ∧ jf q.1 44 X 22 = n ∧ ∀ k, 0 ≤ k → k < n → jf q.1 1000 (X + 21) k = g k := by
  rw [em_X37_give]; unfold dm_X37_give
  rw [jlt_in x0 x1, Option.bind_some, hs]
  simp only [jls]
  rw [eu_X37_give_12]; unfold du_X37_give_12
  refine jS_for (fun k u => tGv t u X ∧ jf u 44 X 22 = n ∧ ∀ j, 0 ≤ j → j < k → jf u 1000 (X + 21) j = g j) (fun k => [T, X, x, k]) 0 n n0 ⟨⟨jSm.rfl.jp, fun c a k h1 h2 => jf_neg (by omega)⟩, jf_pos ⟨rfl, rfl, rfl⟩, fun j j0 j1 => by omega⟩ (fun k u k0 k1 ⟨e1, e2, e3⟩ => ?_) (fun u ⟨e1, e2, e3⟩ => ?_)
  · show jE (b_X37_give_12 u T X x k) _
    unfold b_X37_give_12
    rw [e2, if_pos k1, W32_in (z := 8192 * x) (by omega) (by omega), W32_in (z := 8192 * x + k) (by omega) (by omega), jlt_in (by omega) (by omega), Option.bind_some, jst_in k0 (by omega), Option.bind_some, W32_in (by omega) (by omega), e1.2 _ _ _ (by omega) (by omega), hr k k0 k1]
    refine jS_end ⟨rfl, ⟨e1.1.jp, fun c a j h1 h2 => by rw [jf_neg (by omega)]; exact e1.2 c a j h1 h2⟩, by (repeat (first | rw [jf_neg (by omega)] | rw [jf_pos (by omega)] | rw [ou_neg (by omega)] | rw [ou_pos (by omega)])); exact e2, fun j j0 j1 => ?_⟩
    by_cases c : j = k
    · subst c; exact jf_pos ⟨rfl, rfl, rfl⟩
    · rw [jf_neg (by omega)]; exact e3 j j0 (by omega)
  · show jE (b_X37_give_12 u T X x n) _
    unfold b_X37_give_12
    rw [e2, if_neg (by omega)]
    exact jS_inr (jS_end ⟨e1, e2, e3⟩)
end jCopy
