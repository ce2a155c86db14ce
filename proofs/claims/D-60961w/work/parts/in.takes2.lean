/-! instructions: all operands against a pattern *-/
section jTakes2
variable {s t u w : jS} {v A H b lo k c a x y f d n o j e kd ch : Int} {l : List Int} {NL : List (List Int)} {I : pI} {OL : List pvO} {SL : List pvS} {z : pvS} {zo : pvO}
/-- letters of patterns -/
def ptL (l : List Int) : Prop := l.length ≤ 16 ∧ ∀ ch ∈ l, ch = 69 ∨ ch = 73 ∨ ch = 77 ∨ ch = 80 ∨ ch = 82 ∨ ch = 83 ∨ ch = 88
/-- the operands from j on are as the pattern says -/
def tkA (kd : Int) (l : List Int) (OL : List pvO) (z : pvS) (j : Int) : Prop := ∀ i, j ≤ i → i < z.2.2.2.1 → tkO kd (l.getD i.toNat 0) (tO OL (z.2.2.1 + i))
theorem tkA.st (h1 : j < z.2.2.2.1) : tkA kd l OL z j ↔ tkO kd (l.getD j.toNat 0) (tO OL (z.2.2.1 + j)) ∧ tkA kd l OL z (j + 1) := by
  constructor
  · exact fun h => ⟨h j (Int.le_refl _) h1, fun i i0 i1 => h i (by omega) i1⟩
  · rintro ⟨h2, h3⟩ i i0 i1
    by_cases c : i = j
    · subst c; exact h2
    · exact h3 i (by omega) i1
theorem c_takesL (h : AG s t A H b lo NL I OL SL k z) (hs : pSg s x l) (hl : ptL l) (hn : z.2.2.2.1 = l.length) : ∀ (m : Nat) (j : Int), 0 ≤ j → j + m = z.2.2.2.1 → (tkA kd l OL z j → u_X33_takes_20 s A x kd 1 j = some 1) ∧ (¬ tkA kd l OL z j → u_X33_takes_20 s A x kd 1 j = some 0)
  | 0, j, j0, hj => by
    refine ⟨fun _ => ?_, fun q => absurd (fun i i0 i1 => by omega) q⟩
    rw [eu_X33_takes_20]; unfold du_X33_takes_20
    refine jlpR_r (r := some 1) ?_
    show b_X33_takes_20 s A x kd 1 j = _
    unfold b_X33_takes_20
    rw [h.2.1.2.2.1, if_neg (by omega), Wz_1]
  | m + 1, j, j0, hj => by
    have q0 : u_X33_takes_20 s A x kd 0 (j + 1) = some 0 := by
      rw [eu_X33_takes_20]; unfold du_X33_takes_20
      refine jlpR_r (r := some 0) ?_
      show b_X33_takes_20 s A x kd 0 (j + 1) = _
      unfold b_X33_takes_20
      rw [Wz_0]
      by_cases c : j + 1 < jf s 37 A 35
      · rw [if_pos c, if_pos rfl]
      · rw [if_neg c]
    have j1 : j < z.2.2.2.1 := by omega
    have hc := hl.2 (l.getD j.toNat 0) (by rw [List.getD_eq_getElem?_getD, List.getElem?_eq_getElem (by omega)]; exact List.getElem_mem _)
    have bb := tk_step (kd := kd) h hs j0 j1 (by omega) rfl hc
    have st := tkA.st (kd := kd) (l := l) (OL := OL) (z := z) j1
    obtain ⟨i1, i2⟩ := c_takesL h hs hl hn m (j + 1) (by omega) (by omega)
    rw [eu_X33_takes_20] at i1 i2 q0 ⊢; unfold du_X33_takes_20 at i1 i2 q0 ⊢
    rw [jlpR_l bb]
    by_cases c : tkO kd (l.getD j.toNat 0) (tO OL (z.2.2.1 + j))
    · rw [if1 c]
      exact ⟨fun q => i1 (st.mp q).2, fun q => i2 fun e => q (st.mpr ⟨c, e⟩)⟩
    · rw [if0 c]
      exact ⟨fun q => absurd (st.mp q).1 c, fun _ => q0⟩
theorem c_takes2 (h : AG s t A H b lo NL I OL SL k z) (hs : pSg s x l) (hl : ptL l) : (z.2.2.2.1 = l.length ∧ tkA kd l OL z 0 → m_X33_takes s A x kd = some 1) ∧ (¬ (z.2.2.2.1 = l.length ∧ tkA kd l OL z 0) → m_X33_takes s A x kd = some 0) := by
  have l16 := hl.1
  rw [em_X33_takes]; unfold dm_X33_takes
  rw [s_len hs (by omega), Option.bind_some, h.2.1.2.2.1]
  by_cases c : z.2.2.2.1 = l.length
  · obtain ⟨l1, l2⟩ := c_takesL (kd := kd) h hs hl c l.length 0 (by omega) (by omega)
    rw [if_pos c, eu_X33_takes_16]; unfold du_X33_takes_16
    exact ⟨fun q => l1 q.2, fun q => l2 fun e => q ⟨c, e⟩⟩
  · rw [if_neg c, eu_X33_takes_16]; unfold du_X33_takes_16
    refine ⟨fun q => absurd q.1 c, fun _ => ?_⟩
    rw [eu_X33_takes_20]; unfold du_X33_takes_20
    refine jlpR_r (r := some 0) ?_
    show b_X33_takes_20 s A x kd 0 0 = _
    unfold b_X33_takes_20
    rw [Wz_0]
    by_cases c2 : (0 : Int) < jf s 37 A 35
    · rw [if_pos c2, if_pos rfl]
    · rw [if_neg c2]
end jTakes2
