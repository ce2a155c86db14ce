/-! loops that go through numbers -/
section jLoops
variable {R : Type}
theorem jlpW_st {C : List Int → jS → Option ((jS × List Int) ⊕ R)} {vs : List Int} {s : jS} : jlpW C vs s = (C vs s).bind fun x => match x with
    | .inl q => jlpW C q.2 q.1
    | .inr r => some r := by
  unfold jlpW
  rw [jloop_eq]
  show ((C vs s).bind _) = _
  cases C vs s with
  | none => rfl
  | some x => cases x <;> rfl
theorem jlpR_st {C : List Int → jS → Option (List Int ⊕ R)} {vs : List Int} {s : jS} : jlpR C vs s = (C vs s).bind fun x => match x with
    | .inl q => jlpR C q s
    | .inr r => some r := by
  unfold jlpR
  rw [jloop_eq]
  cases C vs s with
  | none => rfl
  | some x => cases x <;> rfl
theorem jlpW_l {C : List Int → jS → Option ((jS × List Int) ⊕ R)} {vs vs' : List Int} {s s' : jS} (h : C vs s = some (.inl (s', vs'))) : jlpW C vs s = jlpW C vs' s' := by
  rw [jlpW_st, h]; rfl
theorem jlpR_l {C : List Int → jS → Option (List Int ⊕ R)} {vs vs' : List Int} {s : jS} (h : C vs s = some (.inl vs')) : jlpR C vs s = jlpR C vs' s := by
  rw [jlpR_st, h]; rfl
theorem jlpW_r {C : List Int → jS → Option ((jS × List Int) ⊕ R)} {vs : List Int} {s : jS} {r : Option R} (h : C vs s = jinr r) : jlpW C vs s = r := by
  rw [jlpW_st, h]; cases r <;> rfl
theorem jlpR_r {C : List Int → jS → Option (List Int ⊕ R)} {vs : List Int} {s : jS} {r : Option R} (h : C vs s = jinr r) : jlpR C vs s = r := by
  rw [jlpR_st, h]; cases r <;> rfl
/-- a loop from one number to another, its state told for each -/
theorem jforW {C : List Int → jS → Option ((jS × List Int) ⊕ R)} (V : Int → List Int) (S : Int → jS) (lo hi : Int) (hn : lo ≤ hi) (h1 : ∀ k, lo ≤ k → k < hi → C (V k) (S k) = some (.inl (S (k + 1), V (k + 1)))) {r : Option R} (h2 : C (V hi) (S hi) = jinr r) : jlpW C (V lo) (S lo) = r := by
  have key : ∀ (m : Nat) (k : Int), lo ≤ k → k ≤ hi → hi - k = m → jlpW C (V k) (S k) = r := by
    intro m
    induction m with
    | zero =>
      intro k h0 hk hm
      have : k = hi := by omega
      subst this
      exact jlpW_r h2
    | succ m ih =>
      intro k h0 hk hm
      rw [jlpW_l (h1 k h0 (by omega))]
      exact ih (k + 1) (by omega) (by omega) (by omega)
  exact key (hi - lo).toNat lo (Int.le_refl _) hn (by omega)
theorem jforR {C : List Int → jS → Option (List Int ⊕ R)} {s : jS} (V : Int → List Int) (lo hi : Int) (hn : lo ≤ hi) (h1 : ∀ k, lo ≤ k → k < hi → C (V k) s = some (.inl (V (k + 1)))) {r : Option R} (h2 : C (V hi) s = jinr r) : jlpR C (V lo) s = r := by
  have key : ∀ (m : Nat) (k : Int), lo ≤ k → k ≤ hi → hi - k = m → jlpR C (V k) s = r := by
    intro m
    induction m with
    | zero =>
      intro k h0 hk hm
      have : k = hi := by omega
      subst this
      exact jlpR_r h2
    | succ m ih =>
      intro k h0 hk hm
      rw [jlpR_l (h1 k h0 (by omega))]
      exact ih (k + 1) (by omega) (by omega) (by omega)
  exact key (hi - lo).toNat lo (Int.le_refl _) hn (by omega)
/-- a loop that seeks: the first number that is such, or none -/
theorem jseekR {C : List Int → jS → Option (List Int ⊕ R)} {s : jS} (V : Int → List Int) (P : Int → Prop) (f : Int → Option R) (r0 : Option R) (lo hi : Int) (hn : lo ≤ hi) (h1 : ∀ k, lo ≤ k → k < hi → ¬ P k → C (V k) s = some (.inl (V (k + 1)))) (h2 : ∀ k, lo ≤ k → k < hi → P k → C (V k) s = jinr (f k)) (h3 : C (V hi) s = jinr r0) :
    (∃ k, lo ≤ k ∧ k < hi ∧ P k ∧ (∀ j, lo ≤ j → j < k → ¬ P j) ∧ jlpR C (V lo) s = f k) ∨ ((∀ j, lo ≤ j → j < hi → ¬ P j) ∧ jlpR C (V lo) s = r0) := by
  have key : ∀ (m : Nat) (k : Int), lo ≤ k → k ≤ hi → hi - k = m → (∃ i, k ≤ i ∧ i < hi ∧ P i ∧ (∀ j, k ≤ j → j < i → ¬ P j) ∧ jlpR C (V k) s = f i) ∨ ((∀ j, k ≤ j → j < hi → ¬ P j) ∧ jlpR C (V k) s = r0) := by
    intro m
    induction m with
    | zero =>
      intro k h0 hk hm
      have : k = hi := by omega
      subst this
      exact .inr ⟨fun j a b => by omega, jlpR_r h3⟩
    | succ m ih =>
      intro k h0 hk hm
      by_cases hP : P k
      · exact .inl ⟨k, Int.le_refl _, by omega, hP, fun j a b => by omega, jlpR_r (h2 k h0 (by omega) hP)⟩
      · rw [jlpR_l (h1 k h0 (by omega) hP)]
        rcases ih (k + 1) (by omega) (by omega) (by omega) with ⟨i, a1, a2, a3, a4, a5⟩ | ⟨a1, a2⟩
        · exact .inl ⟨i, by omega, a2, a3, fun j b1 b2 => by
            by_cases e : j = k
            · subst e; exact hP
            · exact a4 j (by omega) b2, a5⟩
        · exact .inr ⟨fun j b1 b2 => by
            by_cases e : j = k
            · subst e; exact hP
            · exact a1 j (by omega) b2, a2⟩
  exact key (hi - lo).toNat lo (Int.le_refl _) hn (by omega)
theorem jseekW {C : List Int → jS → Option ((jS × List Int) ⊕ R)} {s : jS} (V : Int → List Int) (P : Int → Prop) (f : Int → Option R) (r0 : Option R) (lo hi : Int) (hn : lo ≤ hi) (h1 : ∀ k, lo ≤ k → k < hi → ¬ P k → C (V k) s = some (.inl (s, V (k + 1)))) (h2 : ∀ k, lo ≤ k → k < hi → P k → C (V k) s = jinr (f k)) (h3 : C (V hi) s = jinr r0) :
    (∃ k, lo ≤ k ∧ k < hi ∧ P k ∧ (∀ j, lo ≤ j → j < k → ¬ P j) ∧ jlpW C (V lo) s = f k) ∨ ((∀ j, lo ≤ j → j < hi → ¬ P j) ∧ jlpW C (V lo) s = r0) := by
  have key : ∀ (m : Nat) (k : Int), lo ≤ k → k ≤ hi → hi - k = m → (∃ i, k ≤ i ∧ i < hi ∧ P i ∧ (∀ j, k ≤ j → j < i → ¬ P j) ∧ jlpW C (V k) s = f i) ∨ ((∀ j, k ≤ j → j < hi → ¬ P j) ∧ jlpW C (V k) s = r0) := by
    intro m
    induction m with
    | zero =>
      intro k h0 hk hm
      have : k = hi := by omega
      subst this
      exact .inr ⟨fun j a b => by omega, jlpW_r h3⟩
    | succ m ih =>
      intro k h0 hk hm
      by_cases hP : P k
      · exact .inl ⟨k, Int.le_refl _, by omega, hP, fun j a b => by omega, jlpW_r (h2 k h0 (by omega) hP)⟩
      · rw [jlpW_l (h1 k h0 (by omega) hP)]
        rcases ih (k + 1) (by omega) (by omega) (by omega) with ⟨i, a1, a2, a3, a4, a5⟩ | ⟨a1, a2⟩
        · exact .inl ⟨i, by omega, a2, a3, fun j b1 b2 => by
            by_cases e : j = k
            · subst e; exact hP
            · exact a4 j (by omega) b2, a5⟩
        · exact .inr ⟨fun j b1 b2 => by
            by_cases e : j = k
            · subst e; exact hP
            · exact a1 j (by omega) b2, a2⟩
  exact key (hi - lo).toNat lo (Int.le_refl _) hn (by omega)
theorem jst_in {s : jS} {c a n i v : Int} (h0 : 0 ≤ i) (h1 : i < n) : jst s c a n i v = some (jp s c a i v) := by unfold jst; rw [if_pos ⟨h0, h1⟩]
theorem jlt_in {s : jS} {c a n i : Int} (h0 : 0 ≤ i) (h1 : i < n) : jlt s c a n i = some (jf s c a i) := by unfold jlt; rw [if_pos ⟨h0, h1⟩]
theorem jix_in {n i v : Int} (h0 : 0 ≤ i) (h1 : i < n) : jix n i v = some v := by unfold jix; rw [if_pos ⟨h0, h1⟩]
theorem jdv_in {y v : Int} (h : ¬ y = 0) : jdv y v = some v := by unfold jdv; rw [if_neg h]
theorem jrd_in {s : jS} {c a k : Int} (h0 : 0 ≤ a) (h1 : jK s a = c) : jrd s c a k = some (jf s c a k) := by unfold jrd; rw [if_pos ⟨h0, h1⟩]
theorem jwr_in {s : jS} {c a k v : Int} (h0 : 0 ≤ a) (h1 : jK s a = c) : jwr s c a k v = some (jp s c a k v) := by unfold jwr; rw [if_pos ⟨h0, h1⟩]
theorem jzb_in {v : Int} (h : v = 0 ∨ v = 1) : jzb v = some v := by unfold jzb; rw [if_pos h]
theorem jct_in {α : Type} {s : jS} {t : Nat} {v : Int} {x : Option α} (h : jTt s t v) : jct s t v x = x := by unfold jct; rw [if_pos h]
theorem jck0_in {α : Type} {a : Int} {x : Option α} (h : 0 ≤ a) : jck0 a x = x := by unfold jck0; rw [if_pos h]
theorem Wz_0 : Wz 0 = 0 := by rw [wz_p]; rfl
theorem Wz_1 : Wz 1 = 1 := by rw [wz_p]; rfl
theorem Wz_in {v : Int} (h : v = 0 ∨ v = 1) : Wz v = v := by rcases h with rfl | rfl <;> first | exact Wz_0 | exact Wz_1
end jLoops
