/-! files: a byte asked, spoiled, on both sides -/
section jFiles3
variable {s t u : jS} {C T O X B n m k b v i : Int} {g g' : Int → Int}
/-- what a byte is -/
theorem X1_byte (h : Fls s C t T) : (∃ v, m_X1_byteAt s C k i = some v) ∧ (k = -1 → ∃ g n, iB s (C + 3992 + 19) g n ∧ jf t 41 T 3 = n ∧ fRow t (T + 3) 0 g n ∧ m_X1_byteAt s C k i = some (if 0 ≤ i ∧ i < n then g i else -1)) ∧ (0 ≤ k → k < 6 → ∃ g n, fB s (fAt C k + 1229) g n ∧ jf t 1000 (T + 2) k = n ∧ fRow t (T + 1) (8192 * k) g n ∧ m_X1_byteAt s C k i = some (if 0 ≤ i ∧ i < n then g i else -1)) ∧ (¬ k = -1 → ¬ (0 ≤ k ∧ k < 6) → m_X1_byteAt s C k i = some (-1)) := by
  rw [em_X1_byteAt]; unfold dm_X1_byteAt
  by_cases c : k = -1
  · obtain ⟨g, n, hb, hs, hr⟩ := h.2
    rw [if_pos c, i_fbyte hb, Option.bind_some]
    exact ⟨⟨_, rfl⟩, fun _ => ⟨g, n, hb, hs, hr, rfl⟩, fun z => by omega, fun z => absurd c z⟩
  · rw [if_neg c]
    by_cases cu : 0 ≤ k ∧ k < 6
    · obtain ⟨g, n, hb, hs, hr⟩ := h.1 k cu.1 cu.2
      rw [(isU1 (s := s) (t := s) cu.1 cu.2).1, Option.bind_some, if_neg (by decide), jix_in cu.1 cu.2, Option.bind_some, c_fbyte (O := (C + 275) + 4041 + 1858 * k) hb, Option.bind_some]
      exact ⟨⟨_, rfl⟩, fun z => absurd z c, fun _ _ => ⟨g, n, hb, hs, hr, rfl⟩, fun _ z => absurd cu z⟩
    · rw [(isU0 (s := s) (t := s) cu).1, Option.bind_some, if_pos rfl]
      exact ⟨⟨_, rfl⟩, fun z => absurd z c, fun z z' => absurd ⟨z, z'⟩ cu, fun _ _ => rfl⟩
theorem f_byteAt2 (h : Fls s C t T) : jE2 (m_X1_byteAt s C k i) (m_X37_byteAt t T k i) fun r q => r = q.2 ∧ FlQ s C t T s q.1 := by
  obtain ⟨v, e⟩ := (X1_byte (k := k) (i := i) h).1
  rw [T_byte h, e, Option.bind_some]
  exact jE2_mk rfl rfl ⟨rfl, FlQ.no h⟩
theorem fRow.sp {o : Int} (h : fRow t b o g n) (hq : ∀ j, jf u 1000 b j = if j = o + i then m % 256 else jf t 1000 b j) : fRow u b o (gSp g i m) n := fun j j0 j1 => by
  rw [hq]; unfold gSp
  by_cases c : j = i
  · rw [if_pos (by omega), if_pos c]
  · rw [if_neg (by omega), if_neg c]; exact h j j0 j1
theorem f_spoil2 (h : Fls s C t T) : jE2 (m_X1_spoil s C k i b) (m_X37_spoil t T k i b) fun r q => r.2 = q.2 ∧ FlQ s C t T r.1 q.1 := by
  obtain ⟨-, h1, h2, h3⟩ := X1_byte (k := k) (i := i) h
  rw [em_X1_spoil, em_X37_spoil]; unfold dm_X1_spoil dm_X37_spoil
  rw [T_byte h]
  have z0 : jf (jp t 41 T 4 0) 41 T 4 = 0 := jf_pos ⟨rfl, rfl, rfl⟩
  have w0 : tFf t (jp t 41 T 4 0) T := tFf.rfl.r (.inr ⟨rfl, rfl, .inr rfl⟩)
  have no := FlQ.no h
  have e0 : ∀ c a k, ¬ (c = 41 ∧ a = T ∧ k = 4) → jf (jp t 41 T 4 0) c a k = jf t c a k := fun c a k hc => jf_neg (by omega)
  generalize jp t 41 T 4 0 = t1 at *
  by_cases c : k = -1
  · obtain ⟨g, n, hb, hs, hr, e⟩ := h1 c
    obtain ⟨l0, l1⟩ : 0 ≤ n ∧ n ≤ 16384 := ⟨hb.1.2.1, hb.2.1⟩
    rw [if_pos c, e, Option.bind_some, Option.bind_some]
    refine jS_two (jS_call (i_fspoil (k := i) (b := b) hb) fun r hq => jS_end ?_)
    rcases hq with ⟨d, r1, r2, r3⟩ | ⟨d, r1⟩
    · have hg := hb.1.2.2.1 i d.1 d.2
      dsimp only
      rw [if_pos d, if_neg (show ¬ g i = -1 by omega), if_pos c, jst_in d.1 (by omega), Option.bind_some, I_and_255]
      refine jS_end ⟨r1, ?_⟩
      refine FlQ.img h r2 (w0.r (.inl ⟨rfl, by omega, by omega⟩)) (by (repeat (first | rw [jf_neg (by omega)] | rw [jf_pos (by omega)] | rw [ou_neg (by omega)] | rw [ou_pos (by omega)])); exact z0) r3 (by rw [jf_neg (by omega), e0 _ _ _ (by omega)]; exact hs) ?_ fun c' a' k' z1 z2 => by rw [jf_neg (by omega)]; exact e0 _ _ _ (by omega)
      exact fRow.sp hr fun j => by
        by_cases cj : j = 0 + i
        · rw [if_pos cj, jf_pos ⟨rfl, rfl, by omega⟩]
        · rw [if_neg cj, jf_neg (by omega)]; exact e0 _ _ _ (by omega)
    · dsimp only
      rw [if_neg d, if_pos rfl, r1]
      exact jS_end ⟨rfl, no⟩
  · rw [if_neg c]
    by_cases cu : 0 ≤ k ∧ k < 6
    · obtain ⟨g, n, hb, hs, hr, e⟩ := h2 cu.1 cu.2
      obtain ⟨l0, l1, -, -⟩ := hb.len
      rw [(isU1 (s := s) (t := t1) cu.1 cu.2).1, e, Option.bind_some, Option.bind_some, Option.bind_some, if_neg (show ¬ (1 : Int) = 0 by decide), jix_in cu.1 cu.2, Option.bind_some]
      refine jS_two (jS_call (c_fspoil (O := (C + 275) + 4041 + 1858 * k) (k := i) (b := b) hb) fun r hq => jS_end ?_)
      rcases hq with ⟨d, r1, r2, r3⟩ | ⟨d, r1⟩
      · have hg := hb.by i d.1 d.2
        dsimp only
        rw [if_pos d, if_neg (show ¬ g i = -1 by omega), if_neg c, W32_in (z := 8192 * k) (by omega) (by omega), W32_in (by omega) (by omega), jst_in (by omega) (by omega), Option.bind_some, I_and_255]
        refine jS_end ⟨r1, ?_⟩
        refine FlQ.unit h cu.1 cu.2 r2 (w0.r (.inl ⟨rfl, by omega, by omega⟩)) (by (repeat (first | rw [jf_neg (by omega)] | rw [jf_pos (by omega)] | rw [ou_neg (by omega)] | rw [ou_pos (by omega)])); exact z0) r3 (by rw [jf_neg (by omega), e0 _ _ _ (by omega)]; exact hs) ?_ fun c' a' k' z1 z2 z3 => by rw [jf_neg (by omega)]; exact e0 _ _ _ (by omega)
        exact fRow.sp hr fun j => by
          by_cases cj : j = 8192 * k + i
          · rw [if_pos cj, jf_pos ⟨rfl, rfl, cj⟩]
          · rw [if_neg cj, jf_neg (by omega)]; exact e0 _ _ _ (by omega)
      · dsimp only
        rw [if_neg d, if_pos rfl, r1]
        exact jS_end ⟨rfl, no⟩
    · rw [(isU0 (s := s) (t := t1) cu).1, h3 c cu, Option.bind_some, Option.bind_some, Option.bind_some, if_pos rfl]
      exact jE2_mk rfl rfl ⟨rfl, no⟩
end jFiles3
