/-! two runs side by side -/
section jTwo
def jE2 {R S : Type} (x : Option R) (y : Option S) (Q : R → S → Prop) : Prop := jE x fun r => jE y fun q => Q r q
variable {R S A B : Type} {Q : R → S → Prop} {P : A → B → Prop}
theorem jE2_some {r : R} {q : S} : jE2 (some r) (some q) Q ↔ Q r q := by unfold jE2; rw [jE_some, jE_some]
theorem jE2_mk {x : Option R} {y : Option S} {r : R} {q : S} (hx : x = some r) (hy : y = some q) (h : Q r q) : jE2 x y Q := ⟨r, hx, q, hy, h⟩
theorem jE2_get {x : Option R} {y : Option S} (h : jE2 x y Q) : ∃ r q, x = some r ∧ y = some q ∧ Q r q := by
  obtain ⟨r, hr, q, hq, h⟩ := h; exact ⟨r, q, hr, hq, h⟩
theorem jE2_L {x : Option A} {K : A → Option R} {y : Option S} : jE2 (x.bind K) y Q ↔ jE x fun a => jE2 (K a) y Q := by unfold jE2; rw [jE_bind]
theorem jE2_R {x : Option R} {y : Option B} {L : B → Option S} : jE2 x (y.bind L) Q ↔ jE y fun b => jE2 x (L b) Q := by
  constructor
  · intro h
    obtain ⟨r, q, hr, hq, h⟩ := jE2_get h
    obtain ⟨b, hb, hL⟩ := Option.bind_eq_some_iff.mp hq
    exact ⟨b, hb, jE2_mk hr hL h⟩
  · rintro ⟨b, hb, h⟩
    obtain ⟨r, q, hr, hq, h⟩ := jE2_get h
    exact jE2_mk hr (by rw [hb]; exact hq) h
theorem jE2_call {x : Option A} {y : Option B} {K : A → Option R} {L : B → Option S} (h : jE2 x y P) (k : ∀ a b, P a b → jE2 (K a) (L b) Q) : jE2 (x.bind K) (y.bind L) Q := by
  obtain ⟨a, b, ha, hb, h⟩ := jE2_get h
  obtain ⟨r, q, hr, hq, h⟩ := jE2_get (k a b h)
  exact jE2_mk (by rw [ha]; exact hr) (by rw [hb]; exact hq) h
theorem jE2_mono {x : Option R} {y : Option S} {Q' : R → S → Prop} (h : jE2 x y Q) (k : ∀ r q, Q r q → Q' r q) : jE2 x y Q' := by
  obtain ⟨r, q, hr, hq, h⟩ := jE2_get h
  exact jE2_mk hr hq (k r q h)
theorem jE2_swap {x : Option R} {y : Option S} : jE2 x y Q ↔ jE2 y x fun q r => Q r q := by
  constructor <;> intro h <;> obtain ⟨r, q, hr, hq, h⟩ := jE2_get h <;> exact jE2_mk hq hr h
theorem jE2_iteL {c : Prop} [Decidable c] {a b : Option R} {y : Option S} : jE2 (if c then a else b) y Q ↔ (c → jE2 a y Q) ∧ (¬ c → jE2 b y Q) := by
  by_cases h : c <;> simp [h]
theorem jE2_iteR {c : Prop} [Decidable c] {x : Option R} {a b : Option S} : jE2 x (if c then a else b) Q ↔ (c → jE2 x a Q) ∧ (¬ c → jE2 x b Q) := by
  by_cases h : c <;> simp [h]
theorem jE2_ite {c d : Prop} [Decidable c] [Decidable d] {a b : Option R} {a' b' : Option S} (hcd : c ↔ d) (h1 : c → jE2 a a' Q) (h2 : ¬ c → jE2 b b' Q) : jE2 (if c then a else b) (if d then a' else b') Q := by
  by_cases h : c
  · rw [if_pos h, if_pos (hcd.mp h)]; exact h1 h
  · rw [if_neg h, if_neg (fun q => h (hcd.mpr q))]; exact h2 h
theorem jE2_eqL {x x' : Option R} {y : Option S} (h : x = x') (k : jE2 x' y Q) : jE2 x y Q := by rw [h]; exact k
theorem jE2_eqR {x : Option R} {y y' : Option S} (h : y = y') (k : jE2 x y' Q) : jE2 x y Q := by rw [h]; exact k
theorem jE2_one {x : Option R} {y : Option S} {P : R → Prop} {P' : S → Prop} (h : jE x P) (h' : jE y P') (k : ∀ r q, P r → P' q → Q r q) : jE2 x y Q := by
  obtain ⟨r, e, p⟩ := h
  obtain ⟨q, e', p'⟩ := h'
  exact jE2_mk e e' (k r q p p')
/-- two loops in step -/
theorem jE2_loop {S1 S2 : Type} {b : S1 → Option (S1 ⊕ R)} {d : S2 → Option (S2 ⊕ S)} (I : S1 → S2 → Prop) (m : S1 → S2 → Int) (step : ∀ s t, I s t → jE2 (b s) (d t) fun x y => match x, y with
    | .inl s', .inl t' => I s' t' ∧ 0 ≤ m s t ∧ m s' t' < m s t
    | .inr r, .inr q => Q r q
    | _, _ => False) {s : S1} {t : S2} (h : I s t) : jE2 (jloop b s) (jloop d t) Q := by
  have key : ∀ (n : Nat) (s : S1) (t : S2), I s t → m s t < n → jE2 (jloop b s) (jloop d t) Q := by
    intro n
    induction n with
    | zero =>
      intro s t hI hm
      obtain ⟨x, y, ex, ey, q⟩ := jE2_get (step s t hI)
      match x, y, q with
      | .inl s', .inl t', q => exact absurd q.2.1 (by omega)
      | .inr r, .inr r', q => exact jE2_mk (jloop_r ex) (jloop_r ey) q
    | succ n ih =>
      intro s t hI hm
      obtain ⟨x, y, ex, ey, q⟩ := jE2_get (step s t hI)
      match x, y, q with
      | .inl s', .inl t', q =>
        obtain ⟨r, r', e1, e2, q'⟩ := jE2_get (ih s' t' q.1 (by have := q.2; omega))
        exact jE2_mk ((jloop_l ex).trans e1) ((jloop_l ey).trans e2) q'
      | .inr r, .inr r', q => exact jE2_mk (jloop_r ex) (jloop_r ey) q
  exact key (m s t + 1).toNat s t h (by omega)
/-- what comes of a round of two loops -/
def jRR (I : jS × List Int → jS × List Int → Prop) (m : jS × List Int → jS × List Int → Int) (Q : R → S → Prop) (s t : jS × List Int) (x : (jS × List Int) ⊕ R) (y : (jS × List Int) ⊕ S) : Prop := match x, y with
    | .inl s', .inl t' => I s' t' ∧ 0 ≤ m s t ∧ m s' t' < m s t
    | .inr r, .inr q => Q r q
    | _, _ => False
theorem jE2_WW {C : List Int → jS → Option ((jS × List Int) ⊕ R)} {D : List Int → jS → Option ((jS × List Int) ⊕ S)} (I : jS × List Int → jS × List Int → Prop) (m : jS × List Int → jS × List Int → Int) (step : ∀ s t, I s t → jE2 (C s.2 s.1) (D t.2 t.1) (jRR I m Q s t)) {s t : jS} {vs us : List Int} (h : I (s, vs) (t, us)) : jE2 (jlpW C vs s) (jlpW D us t) Q :=
  jE2_loop I m (fun s t hI => jE2_mono (step s t hI) fun x y h => by
    match x, y, h with
    | .inl s', .inl t', h => exact h
    | .inr r, .inr q, h => exact h) h
end jTwo
