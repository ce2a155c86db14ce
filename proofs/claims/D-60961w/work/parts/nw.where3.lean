/-! the facade: where, both sides *-/
set_option maxRecDepth 100000
section jFwj
variable {s t u w : jS} {a b k n o p q v l x y c f g j A B H C S : Int} {L : List Int}
/-- one name, the twin -/
abbrev tEq (H : Int) (w : jS) (L : List Int) (g : Int) (i : Nat) : Prop := ∀ j : Nat, j < i → jf w 1000 (H + 207) (16 * g + j) = L.getD j 0
theorem t_whereG (g0 : 0 ≤ g) (g1 : g < 600) (hL : L.length ≤ 16) (ha : ∀ j : Nat, j < L.length → jf w 1000 (H + 209) j = L.getD j 0) : ∀ (k : Nat) (i : Nat), i + k = L.length → tEq H w L g i → ∃ y7, u_X37_where_104 w H L.length g 1 i = u_X37_where_152 w H L.length g y7 ∧ ((y7 = 1 ∧ tEq H w L g L.length) ∨ (y7 = 0 ∧ ¬ tEq H w L g L.length))
  | 0, i, hi, hm => by
    have : i = L.length := by omega
    subst this
    refine ⟨1, ?_, .inl ⟨rfl, hm⟩⟩
    rw [eu_X37_where_104]; unfold du_X37_where_104
    refine jlpW_r ?_
    show b_X37_where_104 w H L.length g 1 L.length = _
    unfold b_X37_where_104
    rw [if_neg (Int.lt_irrefl _)]
  | k + 1, i, hi, hm => by
    have il : (i : Int) < L.length := by omega
    have e104 : ∀ x7 x8, u_X37_where_104 w H L.length g x7 x8 = jlpW (jc5 b_X37_where_104) [H, L.length, g, x7, x8] w := fun x7 x8 => by rw [eu_X37_where_104]; rfl
    have e144 : ∀ y, u_X37_where_144 w H L.length g i y = some (.inl (w, [H, (L.length : Int), g, y, (i : Int) + 1])) := fun y => by
      rw [eu_X37_where_144]; unfold du_X37_where_144
      rw [W32_in (by omega) (by omega)]
    have st : b_X37_where_104 w H L.length g 1 i = if jf w 1000 (H + 207) (16 * g + i) = L.getD i 0 then some (.inl (w, [H, (L.length : Int), g, 1, (i : Int) + 1])) else some (.inl (w, [H, (L.length : Int), g, 0, (i : Int) + 1])) := by
      unfold b_X37_where_104
      rw [if_pos il, if_neg n10, W32_in (z := 16 * g) (by omega) (by omega), W32_in (by omega) (by omega), jlt_in (by omega) (by omega), Option.bind_some, jlt_in (by omega) (by omega), Option.bind_some, ha i (by omega), e144, e144]
    by_cases c : jf w 1000 (H + 207) (16 * g + i) = L.getD i 0
    · rw [if_pos c] at st
      obtain ⟨y7, e, h⟩ := t_whereG g0 g1 hL ha k (i + 1) (by omega) (fun j hj => by
        by_cases cj : j < i
        · exact hm j cj
        · have : j = i := by omega
          subst this; exact c)
      refine ⟨y7, ?_, h⟩
      rw [← e, e104, e104, jlpW_l (C := jc5 b_X37_where_104) (vs := [H, (L.length : Int), g, 1, (i : Int)]) st, show ((i : Int) + 1) = ((i + 1 : Nat) : Int) by omega]
    · rw [if_neg c] at st
      refine ⟨0, ?_, .inr ⟨rfl, fun h => c (h i (by omega))⟩⟩
      rw [e104, jlpW_l (C := jc5 b_X37_where_104) (vs := [H, (L.length : Int), g, 1, (i : Int)]) st]
      refine jlpW_r ?_
      show b_X37_where_104 w H L.length g 0 ((i : Int) + 1) = _
      unfold b_X37_where_104
      split
      · rw [if_pos rfl]
      · rfl
/-- the twin's search -/
theorem t_where (h109 : jf t 41 H 109 = n) (n0 : 0 ≤ n) (n6 : n ≤ 600) : ∃ w, jSm t w ∧ (∀ c a k, ¬ (c = 1000 ∧ a = H + 209) → ¬ (c = 41 ∧ a = H ∧ k = 4) → jf w c a k = jf t c a k) ∧ ((∃ g, (0 ≤ g ∧ g < n) ∧ (jf t 1000 (H + 206) g = (askL A B 16).length ∧ tEq H t (askL A B 16) g (askL A B 16).length) ∧ (∀ j, 0 ≤ j → j < g → ¬ (jf t 1000 (H + 206) j = (askL A B 16).length ∧ tEq H t (askL A B 16) j (askL A B 16).length)) ∧ jf w 41 H 4 = 0 ∧ m_X37_where t H A B = some (w, jf t 1000 (H + 208) g)) ∨ ((∀ g, 0 ≤ g → g < n → ¬ (jf t 1000 (H + 206) g = (askL A B 16).length ∧ tEq H t (askL A B 16) g (askL A B 16).length)) ∧ jf w 41 H 4 = 1 ∧ m_X37_where t H A B = some (w, 0))) := by
  obtain ⟨t1, e1, m1, F1, A1⟩ := t_asked (t := t) (H := H) (A := A) (B := B)
  have l16 := askL_len (a := A) (b := B) 16
  obtain ⟨L, hL⟩ : ∃ L, L = askL A B 16 := ⟨_, rfl⟩
  rw [← hL] at l16 A1 e1 ⊢
  rw [em_X37_where]; unfold dm_X37_where
  rw [e1, eu_X37_where_70]; unfold du_X37_where_70
  rw [eu_X37_where_73]; unfold du_X37_where_73
  -- one global's turn
  have st : ∀ g w, 0 ≤ g → g < n → jSm t w → (∀ c a k, ¬ (c = 41 ∧ a = H ∧ k = 4) → jf w c a k = jf t1 c a k) → (¬ (jf t 1000 (H + 206) g = L.length ∧ tEq H t L g L.length) → b_X37_where_73 w H L.length g = some (.inl (jp w 41 H 4 0, [H, (L.length : Int), g + 1]))) ∧ ((jf t 1000 (H + 206) g = L.length ∧ tEq H t L g L.length) → b_X37_where_73 w H L.length g = jinr (some (jp w 41 H 4 0, jf t 1000 (H + 208) g))) := fun g w g0 g1 mw Fw => by
    have r : ∀ a k, ¬ a = H + 209 → jf w 1000 a k = jf t 1000 a k := fun a k ha => by rw [Fw _ _ _ (by omega), F1 _ _ _ (by omega)]
    have r109 : jf w 41 H 109 = n := by rw [Fw _ _ _ (by omega), F1 _ _ _ (by omega)]; exact h109
    have te : tEq H w L g L.length ↔ tEq H t L g L.length := ⟨fun h j hj => by rw [← r _ _ (by omega)]; exact h j hj, fun h j hj => by rw [r _ _ (by omega)]; exact h j hj⟩
    have e0 : b_X37_where_73 w H L.length g = if jf t 1000 (H + 206) g = L.length then u_X37_where_104 w H L.length g 1 0 else u_X37_where_104 w H L.length g 0 0 := by
      unfold b_X37_where_73
      rw [r109, if_pos g1, jlt_in g0 (by omega), Option.bind_some, r _ _ (by omega), eu_X37_where_99]; rfl
    have z152 : u_X37_where_152 w H L.length g 0 = some (.inl (jp w 41 H 4 0, [H, (L.length : Int), g + 1])) := by
      rw [eu_X37_where_152]; unfold du_X37_where_152
      rw [jls_e, if_pos rfl, W32_in (by omega) (by omega)]
    have o152 : u_X37_where_152 w H L.length g 1 = jinr (some (jp w 41 H 4 0, jf t 1000 (H + 208) g)) := by
      rw [eu_X37_where_152]; unfold du_X37_where_152
      rw [jls_e, if_neg n10, eu_X37_where_162]; unfold du_X37_where_162
      rw [jlt_in g0 (by omega), Option.bind_some, jf_neg (by omega), r _ _ (by omega)]
    rw [e0]
    by_cases c : jf t 1000 (H + 206) g = L.length
    · rw [if_pos c]
      obtain ⟨y7, e, h⟩ := t_whereG (w := w) (H := H) (g := g) (L := L) g0 (by omega) l16 (fun j hj => by rw [Fw _ _ _ (by omega)]; exact A1 j hj) L.length 0 (by omega) (fun j hj => absurd hj (Nat.not_lt_zero _))
      have e : u_X37_where_104 w H L.length g 1 0 = u_X37_where_152 w H L.length g y7 := e
      rw [e]
      rcases h with ⟨z7, z⟩ | ⟨z7, z⟩
      · rw [z7]; exact ⟨fun q => absurd ⟨c, te.mp z⟩ q, fun _ => o152⟩
      · rw [z7]; exact ⟨fun _ => z152, fun q => absurd (te.mpr q.2) z⟩
    · rw [if_neg c]
      refine ⟨fun _ => ?_, fun q => absurd q.1 c⟩
      rw [← z152, eu_X37_where_104]; unfold du_X37_where_104
      refine jlpW_r ?_
      show b_X37_where_104 w H L.length g 0 0 = _
      unfold b_X37_where_104
      split
      · rw [if_pos rfl]
      · rfl
  have fin : ∀ (k : Nat) (g : Int) (w : jS), 0 ≤ g → g ≤ n → n - g = k → jSm t w → (∀ c a k, ¬ (c = 41 ∧ a = H ∧ k = 4) → jf w c a k = jf t1 c a k) → ∃ w', jSm t w' ∧ (∀ c a k, ¬ (c = 41 ∧ a = H ∧ k = 4) → jf w' c a k = jf t1 c a k) ∧ ((∃ g', (g ≤ g' ∧ g' < n) ∧ (jf t 1000 (H + 206) g' = L.length ∧ tEq H t L g' L.length) ∧ (∀ j, g ≤ j → j < g' → ¬ (jf t 1000 (H + 206) j = L.length ∧ tEq H t L j L.length)) ∧ jf w' 41 H 4 = 0 ∧ jlpW (jc3 b_X37_where_73) [H, (L.length : Int), g] w = some (w', jf t 1000 (H + 208) g')) ∨ ((∀ j, g ≤ j → j < n → ¬ (jf t 1000 (H + 206) j = L.length ∧ tEq H t L j L.length)) ∧ jf w' 41 H 4 = 1 ∧ jlpW (jc3 b_X37_where_73) [H, (L.length : Int), g] w = some (w', 0))) := fun k => by
    induction k with
    | zero =>
      intro g w g0 g1 hk mw Fw
      refine ⟨jp w 41 H 4 1, mw.jp, fun c a k q => by rw [jf_neg (by omega)]; exact Fw c a k q, .inr ⟨fun j j0 j1 => by omega, jf_pos ⟨rfl, rfl, rfl⟩, jlpW_r ?_⟩⟩
      show b_X37_where_73 w H L.length g = _
      unfold b_X37_where_73
      have r109 : jf w 41 H 109 = n := by rw [Fw _ _ _ (by omega), F1 _ _ _ (by omega)]; exact h109
      rw [r109, if_neg (by omega), eu_X37_where_176]; rfl
    | succ k ih =>
      intro g w g0 g1 hk mw Fw
      obtain ⟨s1, s2⟩ := st g w g0 (by omega) mw Fw
      by_cases c : jf t 1000 (H + 206) g = L.length ∧ tEq H t L g L.length
      · exact ⟨jp w 41 H 4 0, mw.jp, fun c a k q => by rw [jf_neg (by omega)]; exact Fw c a k q, .inl ⟨g, ⟨Int.le_refl _, by omega⟩, c, fun j j0 j1 => by omega, jf_pos ⟨rfl, rfl, rfl⟩, jlpW_r (s2 c)⟩⟩
      · obtain ⟨w', m', F', h⟩ := ih (g + 1) (jp w 41 H 4 0) (by omega) (by omega) (by omega) mw.jp (fun c a k q => by rw [jf_neg (by omega)]; exact Fw c a k q)
        refine ⟨w', m', F', ?_⟩
        have ej := jlpW_l (C := jc3 b_X37_where_73) (vs := [H, (L.length : Int), g]) (s1 c)
        rw [ej]
        have nx : ∀ j, g ≤ j → ¬ g + 1 ≤ j → ¬ (jf t 1000 (H + 206) j = L.length ∧ tEq H t L j L.length) := fun j j0 j1 => by
          have : j = g := by omega
          rw [this]; exact c
        rcases h with ⟨g', ⟨h1, h2⟩, h3, h4, h5⟩ | ⟨h1, h2⟩
        · refine .inl ⟨g', ⟨by omega, h2⟩, h3, fun j j0 j1 => ?_, h5⟩
          by_cases cj : g + 1 ≤ j
          · exact h4 j cj j1
          · exact nx j j0 cj
        · refine .inr ⟨fun j j0 j1 => ?_, h2⟩
          by_cases cj : g + 1 ≤ j
          · exact h1 j cj j1
          · exact nx j j0 cj
  obtain ⟨w', m', F', h⟩ := fin n.toNat 0 t1 (Int.le_refl _) n0 (by omega) m1 (fun _ _ _ _ => rfl)
  exact ⟨w', m', fun c a k q1 q2 => by rw [F' _ _ _ q2, F1 _ _ _ q1], h⟩
/-- both -/
theorem f_where (h : kpR C H s t) (hB : 0 ≤ jn s ∧ jBd s 1 6) : ∃ r q, m_X1_where s C A B = some r ∧ m_X37_where t H A B = some q ∧ (jSm t q.1 ∧ ∀ c a k, ¬ (c = 1000 ∧ a = H + 209) → ¬ (c = 41 ∧ a = H ∧ k = 4) → jf q.1 c a k = jf t c a k) ∧ ((r = (s, false, q.2) ∧ jf q.1 41 H 4 = 0) ∨ (r = (jmk s 2078 0 (fun _ => 0) 6, true, jn s) ∧ jf q.1 41 H 4 = 1)) := by
  obtain ⟨n, n1, n2, n3, n4, n5⟩ := h
  have eqv : ∀ g, 0 ≤ g → g < n → (askP C s (askL A B 16) g ↔ jf t 1000 (H + 206) g = (askL A B 16).length ∧ tEq H t (askL A B 16) g (askL A B 16).length) := fun g g0 g1 => by
    obtain ⟨⟨q1, q2, q3⟩, q4, -⟩ := n5 g g0 g1
    constructor
    · intro ⟨h1, h2⟩
      refine ⟨by omega, fun j hj => ?_⟩
      obtain ⟨h3, h4⟩ := h1 j hj
      rw [← (q4 j (by omega) (by omega)).1]; exact h4
    · intro ⟨h1, h2⟩
      refine ⟨fun j hj => ⟨by omega, ?_⟩, by omega⟩
      show jf s 1001 (C + 4275 + 38) (16 * g + j) = _
      rw [(q4 j (by omega) (by omega)).1]; exact h2 j hj
  obtain ⟨w, mw, Fw, hw⟩ := t_where (A := A) (B := B) n2 n3 n4
  have hc := c_find (A := A) (B := B) n1 n3 n4 fun g g0 g1 => by
    obtain ⟨⟨q1, q2, q3⟩, -⟩ := n5 g g0 g1
    omega
  rw [em_X1_where]; unfold dm_X1_where
  rcases hc with ⟨g, ⟨g0, g1⟩, c1, c2, e⟩ | ⟨c1, e⟩ <;> rcases hw with ⟨g', ⟨g0', g1'⟩, d1, d2, d3, e'⟩ | ⟨d1, d3, e'⟩
  · have : g = g' := by
      by_cases z : g < g'
      · exact absurd ((eqv g g0 g1).mp c1) (d2 g g0 z)
      · by_cases z2 : g' < g
        · exact absurd ((eqv g' g0' g1').mpr d1) (c2 g' g0' z2)
        · omega
    subst this
    rw [e, e', Option.bind_some, if_neg (by omega), jlt_in g0 (by omega), Option.bind_some]
    refine ⟨_, _, rfl, rfl, ⟨mw, Fw⟩, .inl ⟨?_, d3⟩⟩
    rw [(n5 g g0 g1).2.2]
  · exact absurd ((eqv g g0 g1).mp c1) (d1 g g0 g1)
  · exact absurd ((eqv g' g0' g1').mpr d1) (c1 g' g0' g1')
  · have hx : jnx s 2078 = some (jmk s 2078 0 (fun _ => 0) 6, jn s) := by
      unfold jnx
      exact if_pos ⟨hB.1, hB.2.1, hB.2.2⟩
    rw [e, e', Option.bind_some, if_pos rfl, hx, Option.bind_some]
    exact ⟨_, _, jck0_in hB.1, rfl, ⟨mw, Fw⟩, .inr ⟨rfl, d3⟩⟩
end jFwj
