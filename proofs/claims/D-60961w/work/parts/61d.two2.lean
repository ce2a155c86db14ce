/-! two loops that count in step -/
section jTwo2
variable {R S : Type} {Q : R → S → Prop}
theorem jforRR {C : List Int → jS → Option (List Int ⊕ R)} {D : List Int → jS → Option (List Int ⊕ S)} {s t : jS} (V V' : Int → List Int) (lo hi : Int) (hn : lo ≤ hi)
    (h1 : ∀ k, lo ≤ k → k < hi → (C (V k) s = some (.inl (V (k + 1))) ∧ D (V' k) t = some (.inl (V' (k + 1)))) ∨ ∃ x y, C (V k) s = jinr x ∧ D (V' k) t = jinr y ∧ jE2 x y Q)
    (h2 : ∃ x y, C (V hi) s = jinr x ∧ D (V' hi) t = jinr y ∧ jE2 x y Q) : jE2 (jlpR C (V lo) s) (jlpR D (V' lo) t) Q := by
  have key : ∀ (m : Nat) (k : Int), lo ≤ k → k ≤ hi → hi - k = m → jE2 (jlpR C (V k) s) (jlpR D (V' k) t) Q := by
    intro m
    induction m with
    | zero =>
      intro k h0 hk hm
      have : k = hi := by omega
      subst this
      obtain ⟨x, y, e1, e2, e3⟩ := h2
      rw [jlpR_r e1, jlpR_r e2]; exact e3
    | succ m ih =>
      intro k h0 hk hm
      rcases h1 k h0 (by omega) with ⟨e1, e2⟩ | ⟨x, y, e1, e2, e3⟩
      · rw [jlpR_l e1, jlpR_l e2]
        exact ih (k + 1) (by omega) (by omega) (by omega)
      · rw [jlpR_r e1, jlpR_r e2]; exact e3
  exact key (hi - lo).toNat lo (Int.le_refl _) hn (by omega)
theorem jforWW {C : List Int → jS → Option ((jS × List Int) ⊕ R)} {D : List Int → jS → Option ((jS × List Int) ⊕ S)} (J : Int → jS → jS → Prop) (V V' : Int → List Int) (lo hi : Int) (hn : lo ≤ hi)
    (h1 : ∀ k s t, lo ≤ k → k < hi → J k s t → (∃ s' t', C (V k) s = some (.inl (s', V (k + 1))) ∧ D (V' k) t = some (.inl (t', V' (k + 1))) ∧ J (k + 1) s' t') ∨ ∃ x y, C (V k) s = jinr x ∧ D (V' k) t = jinr y ∧ jE2 x y Q)
    (h2 : ∀ s t, J hi s t → ∃ x y, C (V hi) s = jinr x ∧ D (V' hi) t = jinr y ∧ jE2 x y Q) {s t : jS} (h : J lo s t) : jE2 (jlpW C (V lo) s) (jlpW D (V' lo) t) Q := by
  have key : ∀ (m : Nat) (k : Int) (s t : jS), lo ≤ k → k ≤ hi → hi - k = m → J k s t → jE2 (jlpW C (V k) s) (jlpW D (V' k) t) Q := by
    intro m
    induction m with
    | zero =>
      intro k s t h0 hk hm hJ
      have : k = hi := by omega
      subst this
      obtain ⟨x, y, e1, e2, e3⟩ := h2 s t hJ
      rw [jlpW_r e1, jlpW_r e2]; exact e3
    | succ m ih =>
      intro k s t h0 hk hm hJ
      rcases h1 k s t h0 (by omega) hJ with ⟨s', t', e1, e2, e3⟩ | ⟨x, y, e1, e2, e3⟩
      · rw [jlpW_l e1, jlpW_l e2]
        exact ih (k + 1) s' t' (by omega) (by omega) (by omega) e3
      · rw [jlpW_r e1, jlpW_r e2]; exact e3
  exact key (hi - lo).toNat lo s t (Int.le_refl _) hn (by omega) h
/-- one loop that counts, of which the end is told -/
theorem jforWJ {C : List Int → jS → Option ((jS × List Int) ⊕ R)} {Q : R → Prop} (J : Int → jS → Prop) (V : Int → List Int) (lo hi : Int) (hn : lo ≤ hi)
    (h1 : ∀ k s, lo ≤ k → k < hi → J k s → (∃ s', C (V k) s = some (.inl (s', V (k + 1))) ∧ J (k + 1) s') ∨ ∃ x, C (V k) s = jinr x ∧ jE x Q)
    (h2 : ∀ s, J hi s → ∃ x, C (V hi) s = jinr x ∧ jE x Q) {s : jS} (h : J lo s) : jE (jlpW C (V lo) s) Q := by
  have key : ∀ (m : Nat) (k : Int) (s : jS), lo ≤ k → k ≤ hi → hi - k = m → J k s → jE (jlpW C (V k) s) Q := by
    intro m
    induction m with
    | zero =>
      intro k s h0 hk hm hJ
      have : k = hi := by omega
      subst this
      obtain ⟨x, e1, e3⟩ := h2 s hJ
      rw [jlpW_r e1]; exact e3
    | succ m ih =>
      intro k s h0 hk hm hJ
      rcases h1 k s h0 (by omega) hJ with ⟨s', e1, e3⟩ | ⟨x, e1, e3⟩
      · rw [jlpW_l e1]
        exact ih (k + 1) s' (by omega) (by omega) (by omega) e3
      · rw [jlpW_r e1]; exact e3
  exact key (hi - lo).toNat lo s (Int.le_refl _) hn (by omega) h
def jcont {R : Type} (C : List Int → jS → Option ((jS × List Int) ⊕ R)) : (jS × List Int) ⊕ R → Option R
  | .inl q => jlpW C q.2 q.1
  | .inr r => some r
theorem jlpW_stc {R : Type} {C : List Int → jS → Option ((jS × List Int) ⊕ R)} {vs : List Int} {s : jS} : jlpW C vs s = (C vs s).bind (jcont C) := by
  rw [jlpW_st]
  cases C vs s with
  | none => rfl
  | some x => cases x <;> rfl
theorem jE2_of {x : Option R} {y : Option S} {r : R} {q : S} (hx : x = some r) (hy : y = some q) (h : Q r q) : jE2 x y Q := jE2_mk hx hy h
theorem jE2_and {x : Option R} {y : Option S} {Q' : R → S → Prop} (h : jE2 x y Q) (h' : jE2 x y Q') : jE2 x y fun r q => Q r q ∧ Q' r q := by
  obtain ⟨r, q, e1, e2, e3⟩ := jE2_get h
  obtain ⟨r', q', e1', e2', e3'⟩ := jE2_get h'
  rw [e1] at e1'; rw [e2] at e2'
  cases e1'; cases e2'
  exact jE2_mk e1 e2 ⟨e3, e3'⟩
theorem jqst2 {x : Option ((jS × List Int) ⊕ R)} {y : Option ((jS × List Int) ⊕ S)} {va vb : List Int} {P : jS → jS → Prop} {a b : jS} (hx : x = some (.inl (a, va))) (hy : y = some (.inl (b, vb))) (hp : P a b) : ∃ s' t', x = some (.inl (s', va)) ∧ y = some (.inl (t', vb)) ∧ P s' t' := ⟨a, b, hx, hy, hp⟩
theorem jqst1 {x : Option ((jS × List Int) ⊕ R)} {va : List Int} {P : jS → Prop} {a : jS} (hx : x = some (.inl (a, va))) (hp : P a) : ∃ s', x = some (.inl (s', va)) ∧ P s' := ⟨a, hx, hp⟩
end jTwo2
