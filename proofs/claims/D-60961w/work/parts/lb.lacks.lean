/-! the linker: a fill that is too short, the twin *-/
set_option maxRecDepth 100000
section jLlk
variable {s t u w : jS} {a b k m n p v l x c f i H B C S K X : Int} {d d' e z y : Int → Int → Int}
/-- too short -/
def shK (d : Int → Int → Int) (k : Int) : Prop := d 5 k = 4 ∧ d 6 k < lkK d k
def lkR (d : Int → Int → Int) (r : Int) : Prop := (r = -1 ∧ ∀ k, 0 ≤ k → k < d 0 1 → ¬ shK d k) ∨ ((0 ≤ r ∧ r < d 0 1) ∧ shK d r ∧ ∀ k, 0 ≤ k → k < r → ¬ shK d k)
theorem lkR.one (h : lkR d a) (g : lkR d b) : a = b := by
  rcases h with ⟨h1, h2⟩ | ⟨⟨h1, h2⟩, h3, h4⟩
  · rcases g with ⟨g1, -⟩ | ⟨⟨g1, g2⟩, g3, -⟩
    · omega
    · exact absurd g3 (h2 b g1 g2)
  · rcases g with ⟨g1, g2⟩ | ⟨⟨g1, g2⟩, g3, g4⟩
    · exact absurd h3 (g2 a h1 h2)
    · by_cases c : a < b
      · exact absurd h3 (g4 a h1 c)
      · by_cases c' : b < a
        · exact absurd g3 (h4 b g1 c')
        · omega
theorem t_lacks (h : tLs t X d) (v : vLy d) : ∃ u r, m_X41_lacks t X = some (u, r) ∧ lkR d r ∧ tyW X d t u ∧ tLs u X d ∧ tLq u X d := by
  have v0 := v.1
  have v1 := v.2.1
  rw [em_X41_lacks]; unfold dm_X41_lacks
  obtain ⟨u, eu, h1, h2, h3⟩ := t_reckon h v
  rw [eu, Option.bind_some, eu_X41_lacks_6]; unfold du_X41_lacks_6
  have st : ∀ k, 0 ≤ k → k < d 0 1 → (shK d k → b_X41_lacks_6 u X k = jinr (some (u, k))) ∧ (¬ shK d k → b_X41_lacks_6 u X k = some (.inl (u, [X, k + 1]))) := fun k k0 k1 => by
    obtain ⟨⟨q1, q2⟩, -, -, q4, -⟩ := h2.2.2.2.2.1 k k0 k1
    obtain ⟨-, ⟨p0, p1, -⟩, -⟩ := v.2.2.2.2.2.2.1 k k0 k1
    have J11 : jlt u 1000 (X + 11) 256 k = some (d 5 k) := by rw [jlt_in k0 (by omega), q1]
    have e49 : u_X41_lacks_49 u X k = some (.inl (u, [X, k + 1])) := by
      rw [eu_X41_lacks_49]; unfold du_X41_lacks_49
      rw [W32_in (by omega) (by omega)]
    have body : b_X41_lacks_6 u X k = if d 5 k = 4 then (if d 6 k < lkK d k then jinr (some (u, k)) else some (.inl (u, [X, k + 1]))) else some (.inl (u, [X, k + 1])) := by
      unfold b_X41_lacks_6
      rw [h2.1.2.2.1, if_pos k1, J11, Option.bind_some]
      by_cases c : d 5 k = 4
      · have J21 : jlt u 1000 (X + 21) 256 k = some (lkK d k) := by rw [jlt_in k0 (by omega), ((h3.1 k k0 k1).2 c).1]
        have J14 : jlt u 1000 (X + 14) 256 k = some (d 6 k) := by rw [jlt_in k0 (by omega), q4 (.inr c)]
        have gone : m_X41_isGone u X k = some 0 := by
          rw [em_X41_isGone]; unfold dm_X41_isGone
          rw [jlt_in k0 (by omega), Option.bind_some, q2, jlt_in p0 (by omega), Option.bind_some, h2.2.2.2.1 _ p0 (by omega), Wz_0]
        rw [if_pos c, if_pos c, gone, Option.bind_some, if_pos rfl, J21, J14, Option.bind_some, Option.bind_some, e49]
      · rw [if_neg c, if_neg c, e49]
    constructor
    · intro q; rw [body, if_pos q.1, if_pos q.2]
    · intro q
      rw [body]
      by_cases c : d 5 k = 4
      · rw [if_pos c, if_neg (fun z => q ⟨c, z⟩)]
      · rw [if_neg c]
  rcases jseekW (C := jc2 b_X41_lacks_6) (s := u) (fun k => [X, k]) (fun k => shK d k) (fun k => some (u, k)) (some (u, -1)) 0 (d 0 1) v1.1 (fun k k0 k1 hk => (st k k0 k1).2 hk) (fun k k0 k1 hk => (st k k0 k1).1 hk) (by
    show b_X41_lacks_6 u X (d 0 1) = _
    unfold b_X41_lacks_6
    rw [h2.1.2.2.1, if_neg (by omega)]) with ⟨k, k0, k1, hk, hl, er⟩ | ⟨hn, er⟩
  · exact ⟨u, k, er, .inr ⟨⟨k0, k1⟩, hk, hl⟩, h1, h2, h3⟩
  · exact ⟨u, -1, er, .inl ⟨rfl, hn⟩, h1, h2, h3⟩
end jLlk
