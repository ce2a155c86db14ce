/-! the walk of the law, whose calls might throw but don't -/
section jWalkX
theorem jwalkX {G : jG} {l : Launch} {d t : Nat} {y : MethodName} {cc : ByteArray} {ret : Option FieldType} {m : jMd} {tags : List Nat} {C : List Int → jS → Option (jS × Bool × Int)} (hT : ∀ q ∈ m.2.2.2.2.1, jRok cc q) (hrt : jrtOk m.2.2.2.1 ret) (hE : ∀ q ∈ m.2.2.2.2.2.1, jKOk G l y.cls d y.name m.2.1 m.2.2.1 [] q) (hXs : ∀ q ∈ m.2.2.2.2.2.2.1, jXok y.cls d q) (hhs : m.2.2.2.2.2.2.2 = []) (hwr : m.2.1 = true)
    (body : ∀ (J : jJ) (σ0 σ' : jS) (r : jT) (k : jS × Bool × Int → Prop), jClo J m σ0 σ' r → jLv J m.2.1 σ0 σ' r (jmkX t) [] k → ∀ vs σ x, C vs σ = some x → k x → J 0 (jzl (jsig 0 tags) vs) [] σ)
    (X : jX) (vs : List Int) (σ σ' : jS) (v : Int) (h1 : vs.length = tags.length) (h2 : ∀ v ∈ jzs tags vs, jtk m.2.2.1 σ v) (h3 : C vs σ = some (σ', false, v)) (hXl : X.2.1 = l) (hC : jC G X cc y.cls m.1 ret d y.name) (hH : jNoH X) : jWP G X m.1 0 (jargs 0 (jgs (jzs tags vs))) [] σ σ' (t, v) := by
  have hlv : ∀ (J : jJ) (σ0 σ' : jS) (b : Bool) (v : Int), jLv J m.2.1 σ0 σ' (jrx t b v) (jmkX t) [] (fun x => x = (σ', b, v)) := fun J σ0 σ' b v => by
    refine ⟨fun σ1 w x _ hx hk => ?_, fun q hq => by cases hq⟩
    unfold jmkX at hx; split at hx
    · rename_i g; have := jbeq g; cases hx; cases hk; exact ⟨rfl, by unfold jrx; rw [if_neg (by decide), ← this]⟩
    · split at hx
      · rename_i g; have := jbeq g; cases hx; cases hk; exact ⟨rfl, by unfold jrx; rw [if_pos rfl, ← this]⟩
      · cases hx
  rw [jargs_sig _ _ _ h1]
  exact body (jJ1 m.2.2.1 G X m.1 σ' (jrx t false v)) σ σ' (jrx t false v) (fun x => x = (σ', false, v)) (jClo_1 ⟨hC, ⟨hH.2, by rw [hhs]; exact jHk_nil hC hH⟩, hXl, hT, hrt, by rw [hhs]; exact hE, hXs⟩) (hlv _ _ _ _ _) vs σ (σ', false, v) h3 rfl (jzl_mem h2) (fun v hv => by cases hv)
end jWalkX
