/-! dispatch as a step -/
noncomputable section
variable {G : jG} {l : Launch} {own nm : String} {d : Nat} {wr ty : Bool} {Hs : jHs} {t rc : Nat} {ra : List Nat} {tt : Nat}
theorem jCall.mono {I : Instr} {n : Nat} {F F' : List jT → jS → jS → jT → Prop} (h : jCall G l own d nm I n F) (g : ∀ As σ σ' r, F' As σ σ' r → F As σ σ' r) : jCall G l own d nm I n F' :=
  fun X cc nL ret pc ls st stk As a σ σ1 σ' r v C hXl hfl hFv => h X cc nL ret pc ls st stk As a σ σ1 σ' r v C hXl hfl (g _ _ _ _ hFv)
theorem jUW {key : Nat} {Ix : Instr} (hI : ∀ I m, jkey I = some (key, m) → I = Ix ∧ m = 3) {C : List Int → jS → Option (jS × Int)} {alts : List (Int × (List Int → jS → Option (jS × Int)))} (hi : ∀ vs σ x, C vs σ = some x → jdW alts vs σ = some x)
    (ha : ∀ q ∈ alts, jCall G l own d nm Ix ra.length (jKa q.1 (jFW true (tt :: ra.reverse) t q.2)) ∧ jXt true (tt :: ra.reverse) q.2) (hrt : jrt tt = true) (ht9 : ¬ t = 9) (ht : t < 16) (hrc : rc = 0 ∨ (16 ≤ rc ∧ t = 2 ∧ ty = true)) : jKOk G l own d nm true ty Hs (key, jsCW (ra ++ [tt]) t rc C) := by
  have e : (ra ++ [tt]).reverse = tt :: ra.reverse := by simp
  refine jgW (ty' := true) hI ?_ ?_ hrt (.inl rfl) (fun _ => rfl) ht9 ht hrc
  · rw [e]
    refine (jdW_c hrt fun q hq => (ha q hq).1).mono fun As σ σ' r h => ?_
    obtain ⟨vs, z, h1, h2, h3, h4, h5⟩ := h
    exact ⟨vs, z, h1, h2, h3, hi _ _ _ h4, h5⟩
  · rw [e]
    intro hty vs σ q hl hk hq
    exact jdW_x (fun q hq => (ha q hq).2) hty vs σ q hl hk (hi _ _ _ hq)
theorem jUR {key : Nat} {Ix : Instr} (hI : ∀ I m, jkey I = some (key, m) → I = Ix ∧ m = 3) {C : List Int → jS → Option Int} {alts : List (Int × (List Int → jS → Option Int))} (hi : ∀ vs σ x, C vs σ = some x → jdR alts vs σ = some x)
    (ha : ∀ q ∈ alts, jCall G l own d nm Ix ra.length (jKa q.1 (jFR true (tt :: ra.reverse) t q.2))) (hrt : jrt tt = true) (ht9 : ¬ t = 9) (ht : t < 16) (hrc : rc = 0 ∨ (16 ≤ rc ∧ t = 2 ∧ ty = true)) : jKOk G l own d nm wr ty Hs (key, jsCR (ra ++ [tt]) t rc C) := by
  have e : (ra ++ [tt]).reverse = tt :: ra.reverse := by simp
  refine jgR (ty' := true) hI ?_ hrt (.inl rfl) ht9 ht hrc
  rw [e]
  refine (jdR_c hrt fun q hq => ha q hq).mono fun As σ σ' r h => ?_
  obtain ⟨vs, z, h1, h2, h3, h4, h5, h6⟩ := h
  exact ⟨vs, z, h1, h2, h3, hi _ _ _ h4, h5, h6⟩
theorem jUX {key : Nat} {Ix : Instr} (hI : ∀ I m, jkey I = some (key, m) → I = Ix ∧ m = 3) {C : List Int → jS → Option (jS × Bool × Int)} {alts : List (Int × (List Int → jS → Option (jS × Bool × Int)))} (hi : ∀ vs σ x, C vs σ = some x → jdX alts vs σ = some x)
    (ha : ∀ q ∈ alts, jCall G l own d nm Ix ra.length (jKa q.1 (jFX true (tt :: ra.reverse) t q.2)) ∧ jXt true (tt :: ra.reverse) q.2) (hrt : jrt tt = true) (ht9 : ¬ t = 9) (ht : t < 16) (hrc : rc = 0 ∨ (16 ≤ rc ∧ t = 2 ∧ ty = true)) : jKOk G l own d nm true ty Hs (key, jsCX Hs (ra ++ [tt]) t rc C) := by
  have e : (ra ++ [tt]).reverse = tt :: ra.reverse := by simp
  refine jgX (ty' := true) hI ?_ ?_ hrt (.inl rfl) (fun _ => rfl) ht9 ht hrc
  · rw [e]
    refine (jdX_c hrt fun q hq => (ha q hq).1).mono fun As σ σ' r h => ?_
    obtain ⟨vs, b, z, h1, h2, h3, h4, h5⟩ := h
    exact ⟨vs, b, z, h1, h2, h3, hi _ _ _ h4, h5⟩
  · rw [e]
    intro hty vs σ q hl hk hq
    exact jdX_x (fun q hq => (ha q hq).2) hty vs σ q hl hk (hi _ _ _ hq)
end
