/-! the linker: alignments relocated, both sides *-/
set_option maxRecDepth 100000
section jLno
variable {s t u u1 u2 w w' s' t' t1 : jS} {a b k m mm n nn o p q v l x c f g i j A H C K S X X' P Q V D F M rr n' sec wd r how val q0 kd wc wt sz Y y0 h' : Int} {O : Int → Int → Int → Int → Int} {d e z y : Int → Int → Int} {G B : Int → Int}
theorem t_nopsL (hp : jf t 41 H 115 = p) (p0 : 0 ≤ p) (n0 : 0 ≤ n) (p1 : p + n ≤ 12288) : ∃ w, m_X37_nops t H n = some (w, 0) ∧ jSm t w ∧ (∀ k, 0 ≤ k → k < n → jf w 1000 (H + 205) (p + k) = nopB n k) ∧ ∀ c b k, ¬ (c = 1000 ∧ b = H + 205 ∧ p ≤ k ∧ k < p + n) → jf w c b k = jf t c b k := by
  rw [em_X37_nops]; unfold dm_X37_nops
  rw [eu_X37_nops_2]; unfold du_X37_nops_2
  obtain ⟨w, ew, h1, h2, h3⟩ := loopTo (C := jc3 b_X37_nops_2) (fun i w => jSm t w ∧ (∀ k, 0 ≤ k → k < i → jf w 1000 (H + 205) (p + k) = nopB n k) ∧ ∀ c b k, ¬ (c = 1000 ∧ b = H + 205 ∧ p ≤ k ∧ k < p + i) → jf w c b k = jf t c b k) (fun i => [H, n, i]) 0 n n0 (s := t) (F := fun w => some (w, 0)) ⟨jSm.rfl, fun k k0 k1 => by omega, fun _ _ _ _ => rfl⟩ (fun i w i0 i1 ⟨j1, j2, j3⟩ => by
    have h115 : jf w 41 H 115 = p := by rw [j3 _ _ _ (by omega)]; exact hp
    refine ⟨jp w 1000 (H + 205) (p + i) (nopB n i), ?_, j1.jp, fun k k0 k1 => ?_, fun c b k q => ?_⟩
    · have st : ∀ y, y = nopB n i → u_X37_nops_65 w H n i y (W32 (jf w 41 H 115 + i)) (H + 205) = some (.inl (jp w 1000 (H + 205) (p + i) (nopB n i), [H, n, i + 1])) := fun y hy => by
        rw [eu_X37_nops_65]; unfold du_X37_nops_65
        rw [hy, h115, W32_in (z := p + i) (by omega) (by omega), jst_in (by omega) (by omega), Option.bind_some, W32_in (z := i + 1) (by omega) (by omega)]
      show b_X37_nops_2 w H n i = _
      unfold b_X37_nops_2
      rw [if_pos i1, jdv_in (by decide), I_div_n (by omega) (by omega) (by decide) (by decide), Option.bind_some, W32_in (z := n / 4 * 4) (by omega) (by omega), eu_X37_nops_21]; unfold du_X37_nops_21
      by_cases c : i < n / 4 * 4
      · rw [if_pos c, if_neg n10, jdv_in (by decide), I_rem_n (by omega) (by omega) (by decide) (by decide), Option.bind_some]
        by_cases c4 : i % 4 = 0
        · rw [if_pos c4]
          refine st _ ?_
          unfold nopB; rw [if_pos (by omega), if_pos c4]
        · rw [if_neg c4]
          refine st _ ?_
          unfold nopB; rw [if_pos (by omega), if_neg c4]
      · rw [if_neg c, if_pos rfl, jdv_in (by decide), I_div_n (by omega) (by omega) (by decide) (by decide), Option.bind_some, W32_in (z := n / 4 * 4) (by omega) (by omega)]
        by_cases c4 : i = n / 4 * 4
        · rw [if_pos c4]
          refine st _ ?_
          unfold nopB; rw [if_neg (by omega), if_pos (by omega)]
        · rw [if_neg c4]
          refine st _ ?_
          unfold nopB; rw [if_neg (by omega), if_neg (by omega)]
    · by_cases c : k = i
      · rw [c, jf_pos ⟨rfl, rfl, rfl⟩]
      · rw [jf_neg (by omega)]; exact j2 k k0 (by omega)
    · rw [jf_neg (by omega)]; exact j3 c b k (by omega)) (fun w _ => by
    show b_X37_nops_2 w H n n = _
    unfold b_X37_nops_2
    rw [if_neg (by omega)])
  exact ⟨w, ew, h1, h2, h3⟩
/-- in a plain piece -/
theorem x_nopP (hO : outK C s) (hp : jf s 39 (C + 4275) 38 = A) (ht : jf t 41 H 115 = 4096 * 0 + A) (b0 : 0 ≤ A) (n0 : 0 ≤ n) (b1 : A + n ≤ 4096) : ∃ u w, m_X35_nothing s l (C + 4275 + 34 + 0) A n = some (u, 0) ∧ m_X37_nops t H n = some (w, 0) ∧ rwW C H s t 0 A n u w := by
  obtain ⟨o0, oK, oN⟩ := hO 0 (by decide) (by decide)
  obtain ⟨u, e1, m1, b1', F1⟩ := c_nopsL (l := l) o0 oK oN b0 b1 n0
  obtain ⟨w, e2, m2, b2', F2⟩ := t_nopsL (n := n) ht (by omega) n0 (by omega)
  refine ⟨u, w, e1, e2, ⟨m1, fun c a k q => F1 _ _ _ (by omega)⟩, ⟨m2, fun c a k q => F2 _ _ _ (by omega)⟩, fun i i0 i1 => ⟨nopB n i, nopB_lo, b1' i i0 i1, ?_⟩, fun o' p' o0' o1' q' => F1 _ _ _ (by omega), fun o' p' o0' o1' p0' p1' q' => F2 _ _ _ (by omega)⟩
  show jf w 1000 (H + 205) (4096 * 0 + (A + i)) = _
  rw [← Int.add_assoc]; exact b2' i i0 i1
/-- its own piece: the component has filled it when it copied -/
theorem x_nopO (ht : jf t 41 H 115 = 4096 * 0 + A) (b0 : 0 ≤ A) (n0 : 0 ≤ n) (b1 : A + n ≤ 4096) (hB : ∀ i, 0 ≤ i → i < n → cBy s C 0 (A + i) = sb (nopB n i)) : ∃ w, m_X37_nops t H n = some (w, 0) ∧ rwW C H s t 0 A n s w := by
  obtain ⟨w, e2, m2, b2', F2⟩ := t_nopsL (n := n) ht (by omega) n0 (by omega)
  refine ⟨w, e2, .rfl, ⟨m2, fun c a k q => F2 _ _ _ (by omega)⟩, fun i i0 i1 => ⟨nopB n i, nopB_lo, hB i i0 i1, ?_⟩, fun o' p' o0' o1' q' => rfl, fun o' p' o0' o1' p0' p1' q' => F2 _ _ _ (by omega)⟩
  show jf w 1000 (H + 205) (4096 * 0 + (A + i)) = _
  rw [← Int.add_assoc]; exact b2' i i0 i1
end jLno
