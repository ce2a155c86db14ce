noncomputable section
/-! the bodies of loops and of methods -/
section jRuns
variable {J : jJ} {pc f : Nat} {b : Bool} {σ0 σ' : jS} {r : jT} {R : Type} {m : jMd} {mk : jS → jT → Option R} {U : jUs R} {k : R → Prop} {sig : List (Nat × Nat)} {C : List Int → jS → Option R}
theorem jrunV (hL : jLv J m.2.1 σ0 σ' r mk U k) (M : jClo J m σ0 σ' r) (hC : ∀ vs σ x, C vs σ = some x → jrun m f b mk U pc sig [] vs σ = some x) : ∀ vs σ x, (m.2.1 = false → σ = σ0) → C vs σ = some x → k x → J pc (jzl sig vs) [] σ := fun vs σ x hi h hk => by
  have := hL.run M hC vs σ x hi h hk
  rw [jzr_nil] at this
  exact this
theorem jrunW (hL : jLv J m.2.1 σ0 σ' r mk U k) (M : jClo J m σ0 σ' r) (hC : ∀ vs σ x, C vs σ = some x → jrun m f b mk U pc sig [] vs σ = some x) (hw : m.2.1 = true := by rfl) : ∀ vs σ x, C vs σ = some x → k x → J pc (jzl sig vs) [] σ := fun vs σ x h hk =>
  jrunV hL M hC vs σ x (fun e => by rw [hw] at e; cases e) h hk
theorem jrunR (hL : jLv J m.2.1 σ0 σ' r mk U k) (M : jClo J m σ0 σ' r) (hC : ∀ vs σ x, C vs σ = some x → jrun m f b mk U pc sig [] vs σ = some x) : ∀ vs x, C vs σ0 = some x → k x → J pc (jzl sig vs) [] σ0 := fun vs x h hk =>
  jrunV hL M hC vs σ0 x (fun _ => rfl) h hk
end jRuns
end
