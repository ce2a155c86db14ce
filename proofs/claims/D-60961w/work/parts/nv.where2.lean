/-! the facade: where a name lies, both sides whole *-/
set_option maxRecDepth 100000
section jFwi
variable {s t u w : jS} {a b k n o p q v l x y c f g j A B H C S : Int}
/-- the name that is asked for is the global's -/
abbrev askP (C : Int) (s : jS) (L : List Int) (g : Int) : Prop := askM L (fun j => jf s 1001 (C + 4275 + 38) (16 * g + j)) (jf s 1000 (C + 4275 + 39) g) ∧ (L.length : Int) = jf s 1000 (C + 4275 + 39) g
theorem c_find (h45 : jf s 39 (C + 4275) 45 = n) (n0 : 0 ≤ n) (n6 : n ≤ 600) (h16 : ∀ g, 0 ≤ g → g < n → jf s 1000 (C + 4275 + 39) g ≤ 16) : (∃ g, (0 ≤ g ∧ g < n) ∧ askP C s (askL A B 16) g ∧ (∀ j, 0 ≤ j → j < g → ¬ askP C s (askL A B 16) j) ∧ m_X35_find s (C + 4275) A B = some g) ∨ ((∀ g, 0 ≤ g → g < n → ¬ askP C s (askL A B 16) g) ∧ m_X35_find s (C + 4275) A B = some (-1)) := by
  rw [em_X35_find]; unfold dm_X35_find
  rw [eu_X35_find_3]; unfold du_X35_find_3
  have st : ∀ g, 0 ≤ g → g < n → (¬ askP C s (askL A B 16) g → b_X35_find_3 s (C + 4275) A B g = some (.inl [C + 4275, A, B, g + 1])) ∧ (askP C s (askL A B 16) g → b_X35_find_3 s (C + 4275) A B g = jinr (some g)) := fun g g0 g1 => by
    obtain ⟨y7, y6, e, hy⟩ := c_findG (A := A) (B := B) (s := s) (C := C) (g := g) g0 (by omega) rfl (h16 g g0 g1) 16 0 rfl (fun j hj => absurd hj (Nat.not_lt_zero _))
    have e138 : u_X35_find_138 s (C + 4275) A B g = some (.inl [C + 4275, A, B, g + 1]) := by
      rw [eu_X35_find_138]; unfold du_X35_find_138
      rw [W32_in (by omega) (by omega)]
    have e0 : b_X35_find_3 s (C + 4275) A B g = u_X35_find_118 s (C + 4275) A B g y6 y7 := by
      unfold b_X35_find_3
      rw [h45, if_pos g1]; exact e
    rw [e0, eu_X35_find_118]; unfold du_X35_find_118
    rcases hy with ⟨z7, z6, z⟩ | ⟨z7, z⟩
    · rw [z7, if_neg n10, jlt_in g0 (by omega), Option.bind_some, z6]
      by_cases c : ((askL A B 16).length : Int) = jf s 1000 (C + 4275 + 39) g
      · rw [if_pos c]; exact ⟨fun q => absurd ⟨z, c⟩ q, fun _ => rfl⟩
      · rw [if_neg c]; exact ⟨fun _ => e138, fun q => absurd q.2 c⟩
    · rw [z7, if_pos rfl]; exact ⟨fun _ => e138, fun q => absurd q.1 z⟩
  rcases jseekR (C := jc4 b_X35_find_3) (s := s) (fun g => [C + 4275, A, B, g]) (fun g => askP C s (askL A B 16) g) (fun g => some g) (some (-1)) 0 n n0 (fun g g0 g1 hg => (st g g0 g1).1 hg) (fun g g0 g1 hg => (st g g0 g1).2 hg) (by
      show b_X35_find_3 s (C + 4275) A B n = _
      unfold b_X35_find_3
      rw [h45, if_neg (Int.lt_irrefl _)]) with ⟨k, k0, k1, k2, k3, e⟩ | ⟨k2, e⟩
  · exact .inl ⟨k, ⟨k0, k1⟩, k2, k3, e⟩
  · exact .inr ⟨k2, e⟩
/-- the twin gathers the letters -/
theorem t_asked : ∃ w, u_X37_where_6 t H A B 0 0 = u_X37_where_70 w H (askL A B 16).length ∧ jSm t w ∧ (∀ c a k, ¬ (c = 1000 ∧ a = H + 209) → jf w c a k = jf t c a k) ∧ ∀ j : Nat, j < (askL A B 16).length → jf w 1000 (H + 209) j = (askL A B 16).getD j 0 := by
  rw [eu_X37_where_6]; unfold du_X37_where_6
  obtain ⟨w, ew, h1, h2, h3⟩ := loopTo (C := jc5 b_X37_where_6) (fun i w => jSm t w ∧ (∀ c a k, ¬ (c = 1000 ∧ a = H + 209) → jf w c a k = jf t c a k) ∧ ∀ j : Nat, j < (askL A B i.toNat).length → jf w 1000 (H + 209) j = (askL A B i.toNat).getD j 0) (fun i => [H, A, B, ((askL A B i.toNat).length : Int), i]) 0 16 (by decide) (s := t) (F := fun w => u_X37_where_70 w H (askL A B 16).length) ⟨jSm.rfl, fun _ _ _ _ => rfl, fun j hj => absurd hj (Nat.not_lt_zero _)⟩ (fun i w i0 i1 ⟨j1, j2, j3⟩ => by
    have li := askL_len (a := A) (b := B) i.toNat
    have ei : ((i.toNat : Nat) : Int) = i := by omega
    have es := ask_s (A := A) (B := B) i.toNat
    rw [ei, show i.toNat + 1 = (i + 1).toNat by omega] at es
    have e64 : ∀ w x5, u_X37_where_64 w H A B x5 i = some (.inl (w, [H, A, B, x5, i + 1])) := fun w x5 => by
      rw [eu_X37_where_64]; unfold du_X37_where_64
      rw [W32_in (by omega) (by omega)]
    have st : b_X37_where_6 w H A B (askL A B i.toNat).length i = u_X37_where_25 w H A B (askL A B i.toNat).length i (if i < 8 then A else B) := by
      unfold b_X37_where_6
      rw [if_pos i1]
      split <;> rfl
    rw [eu_X37_where_25] at st; unfold du_X37_where_25 at st
    rw [jdv_in (by decide), Option.bind_some] at st
    simp only [jlet] at st
    rw [ak_t i0 i1] at st
    by_cases c : akB A B i = 0
    · rw [if_pos c, e64] at st
      rw [if_pos c] at es
      rw [es]
      exact ⟨w, st, j1, j2, j3⟩
    · rw [if_neg c, jst_in (by omega) (by omega), Option.bind_some, W32_in (by omega) (by omega), e64] at st
      rw [if_neg c] at es
      rw [es]
      refine ⟨_, by rw [List.length_append]; exact st, j1.jp, fun c a k q => by rw [jf_neg (by omega)]; exact j2 c a k q, fun j hj => ?_⟩
      rw [List.length_append] at hj
      have hj : j < (askL A B i.toNat).length + 1 := hj
      rw [getD_app]
      by_cases cj : j < (askL A B i.toNat).length
      · rw [if_pos cj, jf_neg (by omega)]; exact j3 j cj
      · have : j = (askL A B i.toNat).length := by omega
        subst this
        rw [if_neg cj, Nat.sub_self, jf_pos ⟨rfl, rfl, rfl⟩]; rfl) (fun w _ => by
    show b_X37_where_6 w H A B (askL A B 16).length 16 = _
    unfold b_X37_where_6
    rw [if_neg (by decide)])
  exact ⟨w, ew, h1, h2, h3⟩
end jFwi
