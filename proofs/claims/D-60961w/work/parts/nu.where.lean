/-! the facade: where a name lies, both sides *-/
set_option maxRecDepth 100000
section jFwh
variable {s t u w : jS} {a b k n o p q v l x y c f g j A B H C S : Int}
theorem ak_c (i0 : 0 ≤ x) (i1 : x < 16) : L2i (L_and (L_shr (if x < 8 then A else B) (W32 (56 - W32 (8 * I_and x 7)))) 255) = akB A B x := by
  have e7 : I_and x 7 = x % 8 := I_and_7 x
  unfold akB
  rw [e7, W32_in (z := 8 * (x % 8)) (by omega) (by omega), W32_in (by omega) (by omega)]
theorem ak_t (i0 : 0 ≤ x) (i1 : x < 16) : L2i (L_and (L_shr (if x < 8 then A else B) (W32 (56 - W32 (8 * I_rem x 8)))) 255) = akB A B x := by
  unfold akB
  rw [I_rem_n i0 (by omega) (by decide) (by decide), W32_in (z := 8 * (x % 8)) (by omega) (by omega), W32_in (by omega) (by omega)]
theorem ask_s (i : Nat) : askL A B (i + 1) = if akB A B i = 0 then askL A B i else askL A B i ++ [akB A B i] := rfl
theorem ask_pre {m : Int → Int} {N : Int} (i : Nat) : ∀ k : Nat, askM (askL A B (i + k)) m N → askM (askL A B i) m N
  | 0, h => h
  | k + 1, h => ask_pre i k (by
    have h : askM (askL A B (i + k + 1)) m N := h
    rw [ask_s] at h
    split at h
    · exact h
    · exact (askM_s.mp h).1)
/-- one name, the component -/
theorem c_findG (g0 : 0 ≤ g) (g1 : g < 600) {N : Int} (hn : jf s 1000 (C + 4275 + 39) g = N) (n1 : N ≤ 16) : ∀ (k : Nat) (i : Nat), i + k = 16 → askM (askL A B i) (fun j => jf s 1001 (C + 4275 + 38) (16 * g + j)) N → ∃ y7 y6, u_X35_find_21 s (C + 4275) A B g (askL A B i).length 1 i = u_X35_find_118 s (C + 4275) A B g y6 y7 ∧ ((y7 = 1 ∧ y6 = (askL A B 16).length ∧ askM (askL A B 16) (fun j => jf s 1001 (C + 4275 + 38) (16 * g + j)) N) ∨ (y7 = 0 ∧ ¬ askM (askL A B 16) (fun j => jf s 1001 (C + 4275 + 38) (16 * g + j)) N))
  | 0, i, hi, hm => by
    have : i = 16 := by omega
    subst this
    refine ⟨1, _, ?_, .inl ⟨rfl, rfl, hm⟩⟩
    rw [eu_X35_find_21]; unfold du_X35_find_21
    refine jlpR_r ?_
    show b_X35_find_21 s (C + 4275) A B g (askL A B 16).length 1 16 = _
    unfold b_X35_find_21
    rw [if_neg (by decide)]
  | k + 1, i, hi, hm => by
    have i16 : (i : Int) < 16 := by omega
    obtain ⟨m, hm0⟩ : ∃ m : Int → Int, m = fun j => jf s 1001 (C + 4275 + 38) (16 * g + j) := ⟨_, rfl⟩
    rw [← hm0] at hm ⊢
    have l16 := askL_len (a := A) (b := B) i
    have ec : ∀ x6 x7, u_X35_find_112 s (C + 4275) A B g x6 x7 i = some (.inl [C + 4275, A, B, g, x6, x7, (i : Int) + 1]) := fun x6 x7 => by
      rw [eu_X35_find_112]; unfold du_X35_find_112
      rw [W32_in (by omega) (by omega)]
    have st : b_X35_find_21 s (C + 4275) A B g (askL A B i).length 1 i = u_X35_find_45 s (C + 4275) A B g (askL A B i).length 1 i (if (i : Int) < 8 then A else B) := by
      unfold b_X35_find_21
      rw [if_pos i16, if_neg n10]
      split <;> rfl
    rw [eu_X35_find_45] at st; unfold du_X35_find_45 at st
    simp only [jlet] at st
    rw [ak_c (by omega) i16] at st
    have e21 : ∀ x6 x7 x8, u_X35_find_21 s (C + 4275) A B g x6 x7 x8 = jlpR (jc7 b_X35_find_21) [C + 4275, A, B, g, x6, x7, x8] s := fun x6 x7 x8 => by rw [eu_X35_find_21]; rfl
    -- refused at this letter
    have no : ¬ akB A B i = 0 → ¬ ((askL A B i).length < N ∧ m (askL A B i).length = akB A B i) → b_X35_find_21 s (C + 4275) A B g (askL A B i).length 1 i = some (.inl [C + 4275, A, B, g, ((askL A B i).length : Int) + 1, 0, (i : Int) + 1]) → ∃ y7 y6, u_X35_find_21 s (C + 4275) A B g (askL A B i).length 1 i = u_X35_find_118 s (C + 4275) A B g y6 y7 ∧ ((y7 = 1 ∧ y6 = (askL A B 16).length ∧ askM (askL A B 16) m N) ∨ (y7 = 0 ∧ ¬ askM (askL A B 16) m N)) := fun c1 c2 e => by
      refine ⟨0, ((askL A B i).length : Int) + 1, ?_, .inr ⟨rfl, fun h => ?_⟩⟩
      · rw [e21, jlpR_l (C := jc7 b_X35_find_21) (vs := [C + 4275, A, B, g, ((askL A B i).length : Int), 1, (i : Int)]) e]
        refine jlpR_r ?_
        show b_X35_find_21 s (C + 4275) A B g (((askL A B i).length : Int) + 1) 0 ((i : Int) + 1) = _
        unfold b_X35_find_21
        split
        · rw [if_pos rfl]
        · rfl
      · have : askM (askL A B (i + 1)) m N := ask_pre (i + 1) k (by rw [show i + 1 + k = 16 by omega]; exact h)
        rw [ask_s, if_neg c1] at this
        exact c2 (askM_s.mp this).2
    have en : ((i : Int) + 1) = ((i + 1 : Nat) : Int) := by omega
    by_cases c : akB A B i = 0
    · rw [if_pos c, ec] at st
      obtain ⟨y7, y6, e, h⟩ := c_findG g0 g1 hn n1 k (i + 1) (by omega) (by rw [ask_s, if_pos c, ← hm0]; exact hm)
      rw [← hm0] at h
      refine ⟨y7, y6, ?_, h⟩
      rw [← e, e21, e21, jlpR_l (C := jc7 b_X35_find_21) (vs := [C + 4275, A, B, g, ((askL A B i).length : Int), 1, (i : Int)]) st, ask_s, if_pos c, en]
    · rw [if_neg c, jlt_in g0 g1, Option.bind_some, hn] at st
      have r106 : u_X35_find_106 s (C + 4275) A B g (askL A B i).length i = some (.inl [C + 4275, A, B, g, ((askL A B i).length : Int) + 1, 0, (i : Int) + 1]) := by
        rw [eu_X35_find_106]; unfold du_X35_find_106
        rw [eu_X35_find_107]; unfold du_X35_find_107
        rw [W32_in (by omega) (by omega), ec]
      by_cases c2 : ((askL A B i).length : Int) < N
      · have em : jf s 1001 (C + 4275 + 38) (16 * g + (askL A B i).length) = m (askL A B i).length := by rw [hm0]
        rw [if_pos c2, W32_in (z := 16 * g) (by omega) (by omega), W32_in (by omega) (by omega), jlt_in (by omega) (by omega), Option.bind_some, em] at st
        by_cases c3 : m (askL A B i).length = akB A B i
        · rw [if_pos c3, eu_X35_find_107] at st; unfold du_X35_find_107 at st
          rw [W32_in (by omega) (by omega), ec] at st
          obtain ⟨y7, y6, e, h⟩ := c_findG g0 g1 hn n1 k (i + 1) (by omega) (by rw [ask_s, if_neg c, ← hm0]; exact askM_s.mpr ⟨hm, c2, c3⟩)
          rw [← hm0] at h
          refine ⟨y7, y6, ?_, h⟩
          rw [← e, e21, e21, jlpR_l (C := jc7 b_X35_find_21) (vs := [C + 4275, A, B, g, ((askL A B i).length : Int), 1, (i : Int)]) st, ask_s, if_neg c, en, List.length_append]; rfl
        · rw [if_neg c3, r106] at st
          exact no c (fun q => c3 q.2) st
      · rw [if_neg c2, r106] at st
        exact no c (fun q => c2 q.1) st
end jFwh
