noncomputable section
/-! units, loops, levels: for any judgement that the rows keep -/
abbrev jJ : Type := Nat → List (Nat × jT) → List jT → jS → Prop
/-- locals, writes, types, return, rows, steps, exceptions that are made, handlers -/
abbrev jMd : Type 1 := Nat × Bool × Bool × Nat × List jRow × jEs × List (Nat × Int) × jHs
def jtc (a t : Nat) : Bool := Nat.beq a t || (Nat.beq t 2 && Nat.ble 16 a)
def jgets (ls : List (Nat × jT)) : List (Nat × Nat) → Option (List Int)
  | [] => some []
  | (i, t) :: s => match jlk ls i with
    | some (a, z) => if jtc a t then (match jgets ls s with
      | some vs => some (z :: vs)
      | none => none) else none
    | none => none
def jsts : List Nat → List jT → Option (List Int)
  | [], [] => some []
  | t :: ts, (a, z) :: s => if jtc a t then (match jsts ts s with
      | some vs => some (z :: vs)
      | none => none) else none
  | _, _ => none
def jzs : List Nat → List Int → List jT
  | t :: ts, v :: vs => (t, v) :: jzs ts vs
  | _, _ => []
def jzl : List (Nat × Nat) → List Int → List (Nat × jT)
  | (i, t) :: s, v :: vs => (i, (t, v)) :: jzl s vs
  | _, _ => []
def jzr : List (Nat × Nat) → List Nat → List Int → List jT
  | _ :: s, ts, _ :: vs => jzr s ts vs
  | [], ts, vs => jzs ts vs
  | _, _, [] => []
def jun {R : Type} (sig : List (Nat × Nat)) (ts : List Nat) (C : List Int → jS → Option R) (ls : List (Nat × jT)) (st : List jT) (σ : jS) : Option R := match jgets ls sig with
  | some vs => match jsts ts st with
    | some ws => C (vs ++ ws) σ
    | none => none
  | none => none
theorem jtc_b {a t : Nat} {z : Int} (h : jtc a t = true) : jgm (a, z) = jgm (t, z) ∧ ∀ ty σ, jtk ty σ (a, z) → jtk ty σ (t, z) := by
  unfold jtc at h
  rw [Bool.or_eq_true] at h
  rcases h with h | h
  · have := jbeq h; subst this; exact ⟨rfl, fun _ _ h => h⟩
  · rw [Bool.and_eq_true] at h
    have := jbeq h.1; subst this
    have g := Nat.le_of_ble_eq_true h.2
    exact ⟨by unfold jgm; rw [if_pos g]; rfl, fun _ _ _ => jtk_lt (by show 2 < 16; decide)⟩
theorem jgets_b {ls : List (Nat × jT)} : ∀ {sig : List (Nat × Nat)} {vs : List Int}, jgets ls sig = some vs → sig.length = vs.length ∧ (∃ ks : List Nat, ∀ ws, ks.filterMap (fun k => (jgl ls)[k]?) = jgl (jzl sig (vs ++ ws))) ∧ ∀ ty σ ws, (∀ q ∈ ls, jtk ty σ q.2) → ∀ q ∈ jzl sig (vs ++ ws), jtk ty σ q.2
  | [], vs, h => by
    cases h
    exact ⟨rfl, ⟨[], fun ws => by unfold jzl; rfl⟩, fun ty σ ws _ q hq => by unfold jzl at hq; cases hq⟩
  | (i, t) :: s, vs, h => by
    unfold jgets at h; split at h
    · rename_i a z e
      split at h
      · rename_i g
        split at h
        · rename_i vs' h'
          cases h
          obtain ⟨h1, ⟨ks, h2⟩, h3⟩ := jgets_b h'
          have hm := jlk_mem e
          obtain ⟨q, hq⟩ := List.mem_iff_getElem?.mp hm
          refine ⟨by simp [h1], ⟨q :: ks, fun ws => ?_⟩, fun ty σ ws hl q hq => ?_⟩
          · rw [List.filterMap_cons, jgl_at hq, List.cons_append]
            show _ :: _ = _ :: _
            rw [h2 ws, (jtc_b (z := z) g).1]
            rfl
          · rw [List.cons_append] at hq
            rcases List.mem_cons.mp hq with rfl | hq
            · exact (jtc_b g).2 ty σ (hl _ hm)
            · exact h3 ty σ ws hl q hq
        · cases h
      · cases h
    · cases h
theorem jsts_b : ∀ {ts : List Nat} {st : List jT} {vs : List Int}, jsts ts st = some vs → jgs st = jgs (jzs ts vs) ∧ ∀ ty σ, (∀ v ∈ st, jtk ty σ v) → ∀ v ∈ jzs ts vs, jtk ty σ v
  | [], [], vs, h => by cases h; exact ⟨rfl, fun _ _ _ v hv => by cases hv⟩
  | [], _ :: _, _, h => by cases h
  | _ :: _, [], _, h => by cases h
  | t :: ts, (a, z) :: s, vs, h => by
    unfold jsts at h; split at h
    · rename_i g
      split at h
      · rename_i vs' h'
        cases h
        obtain ⟨h1, h2⟩ := jsts_b h'
        refine ⟨?_, fun ty σ hs v hv => ?_⟩
        · show _ :: _ = _ :: _
          rw [(jtc_b (z := z) g).1]
          exact congrArg _ h1
        · rcases List.mem_cons.mp hv with rfl | hv
          · exact (jtc_b g).2 ty σ (hs _ List.mem_cons_self)
          · exact h2 ty σ (fun v hv => hs v (List.mem_cons_of_mem _ hv)) v hv
      · cases h
    · cases h
theorem jzr_app : ∀ {sig : List (Nat × Nat)} {ts : List Nat} {vs ws : List Int}, sig.length = vs.length → jzr sig ts (vs ++ ws) = jzs ts ws
  | [], ts, [], ws, _ => by unfold jzr; rfl
  | [], _, _ :: _, _, h => by cases h
  | _ :: _, _, [], _, h => by cases h
  | _ :: s, ts, _ :: vs, ws, h => by
    show jzr s ts (vs ++ ws) = _
    exact jzr_app (Nat.succ.inj h)
theorem jzr_nil : ∀ (sig : List (Nat × Nat)) (vs : List Int), jzr sig [] vs = []
  | [], vs => by unfold jzr; cases vs <;> rfl
  | _ :: _, [] => rfl
  | _ :: s, _ :: vs => jzr_nil s vs
def jinr {S R : Type} (x : Option R) : Option (S ⊕ R) := x.bind fun r => some (.inr r)
def jmkI {S R : Type} (mk : jS → jT → Option R) (σ : jS) (v : jT) : Option (S ⊕ R) := jinr (mk σ v)
def jlift {S R : Type} (U : jUs R) : jUs (S ⊕ R) := U.map fun q => (q.1, fun ls st σ => jinr (q.2 ls st σ))
def jbkW {R : Type} (sig : List (Nat × Nat)) (ls : List (Nat × jT)) (st : List jT) (σ : jS) : Option ((jS × List Int) ⊕ R) := match st with
  | [] => match jgets ls sig with
    | some vs => some (.inl (σ, vs))
    | none => none
  | _ => none
def jbkR {R : Type} (sig : List (Nat × Nat)) (ls : List (Nat × jT)) (st : List jT) (_ : jS) : Option (List Int ⊕ R) := match st with
  | [] => match jgets ls sig with
    | some vs => some (.inl vs)
    | none => none
  | _ => none
def jlpW {R : Type} (C : List Int → jS → Option ((jS × List Int) ⊕ R)) (vs : List Int) (σ : jS) : Option R := jloop (fun s => C s.2 s.1) (σ, vs)
def jlpR {R : Type} (C : List Int → jS → Option (List Int ⊕ R)) (vs : List Int) (σ : jS) : Option R := jloop (fun s => C s σ) vs
theorem jinr_b {S R : Type} {x : Option R} {y : S ⊕ R} (h : jinr x = some y) : ∃ r, x = some r ∧ y = .inr r := by
  obtain ⟨r, h1, h2⟩ := jb_b h
  cases h2; exact ⟨r, h1, rfl⟩
def jrun {R : Type} (m : jMd) (f : Nat) (b : Bool) (mk : jS → jT → Option R) (U : jUs R) (pc : Nat) (sig : List (Nat × Nat)) (ts : List Nat) (vs : List Int) (σ : jS) : Option R := jx m.1 m.2.1 m.2.2.1 m.2.2.2.1 m.2.2.2.2.1 m.2.2.2.2.2.1 m.2.2.2.2.2.2.1 mk U f b pc (jfind m.2.2.2.2.1 pc) (jzl sig vs) (jzr sig ts vs) σ
/-- a judgement that the rows of a method keep -/
def jClo (J : jJ) (m : jMd) (σ0 σ' : jS) (r : jT) : Prop :=
  (∀ (p n fl : Nat) (I : Instr) (t c : Int), (p, I, n, fl, t, c) ∈ m.2.2.2.2.1 → fl < 8 → ∀ (R : Type) (mk : jS → jT → Option R) (kn : List (Nat × jT) → List jT → jS → Option R) (kj : Nat → List (Nat × jT) → List jT → jS → Option R) (ls : List (Nat × jT)) (st : List jT) (σ : jS) (x : R), (m.2.1 = false → σ = σ0) →
    (∀ ls1 st1 σ1, (m.2.1 = false → σ1 = σ0) → kn ls1 st1 σ1 = some x → J (p + n) ls1 st1 σ1) → (∀ q ls1 st1 σ1, (m.2.1 = false → σ1 = σ0) → kj q ls1 st1 σ1 = some x → J q ls1 st1 σ1) → (∀ σ1 v, (m.2.1 = false → σ1 = σ0) → mk σ1 v = some x → σ1 = σ' ∧ v = r) →
    jstep m.1 m.2.1 m.2.2.1 m.2.2.2.1 m.2.2.2.2.2.1 mk kn kj p n fl t c I ls st σ = some x → J p ls st σ)
  ∧ (∀ (pc : Nat) (sig : List (Nat × Nat)) (ts : List Nat) (ls : List (Nat × jT)) (st : List jT) (σ : jS) (vs ws : List Int), jgets ls sig = some vs → jsts ts st = some ws → J pc (jzl sig (vs ++ ws)) (jzs ts ws) σ → J pc ls st σ)
  ∧ ∀ (p fl i : Nat) (t c k : Int), (p, .new i, 7, fl, t, c) ∈ m.2.2.2.2.1 → 8 ≤ fl → jlk m.2.2.2.2.2.2.1 (Nat.add (Nat.mul 65536 i) t.toNat) = some k → ∀ (ls : List (Nat × jT)) (st : List jT) (σ : jS), jwords st ≤ 33 → 0 ≤ jn σ → jn σ + 1 ≤ jlN σ → ju σ + 6 ≤ jlU σ → J (p + 7) ls ((2, jn σ) :: st) (jmk σ k 0 (fun _ => 0) 6) → J p ls st σ
/-- a level of a method: what its ends and its units mean -/
def jLv (J : jJ) (wr : Bool) (σ0 σ' : jS) (r : jT) {R : Type} (mk : jS → jT → Option R) (U : jUs R) (k : R → Prop) : Prop :=
  (∀ σ1 v x, (wr = false → σ1 = σ0) → mk σ1 v = some x → k x → σ1 = σ' ∧ v = r) ∧ ∀ q ∈ U, ∀ ls st σ x, (wr = false → σ = σ0) → q.2 ls st σ = some x → k x → J q.1 ls st σ
section jUnit
variable {J : jJ} {pc f : Nat} {b : Bool} {σ0 σ' : jS} {r : jT} {R : Type} {m : jMd} {mk : jS → jT → Option R} {U : jUs R} {k : R → Prop} {sig : List (Nat × Nat)} {ts : List Nat}
theorem jx_ok (M : jClo J m σ0 σ' r) (hL : jLv J m.2.1 σ0 σ' r mk U k) :
    ∀ (f : Nat) (b : Bool) (pc : Nat) (tb : List jRow) (ls : List (Nat × jT)) (st : List jT) (σ : jS) (x : R), (∀ q ∈ tb, q ∈ m.2.2.2.2.1) → (m.2.1 = false → σ = σ0) → jx m.1 m.2.1 m.2.2.1 m.2.2.2.1 m.2.2.2.2.1 m.2.2.2.2.2.1 m.2.2.2.2.2.2.1 mk U f b pc tb ls st σ = some x → k x → J pc ls st σ
  | 0, _, _, _, _, _, _, _, _, _, h, _ => by unfold jx at h; cases h
  | _ + 1, _, _, [], _, _, _, _, _, _, h, _ => by unfold jx at h; cases h
  | f + 1, b, pc, (p, I, n, fl, t, c) :: rest, ls, st, σ, x, hs, h0, h, hk => by
    unfold jx at h
    split at h
    · rename_i g; have := jbeq g; subst this
      split at h
      · split at h
        · rename_i g8
          have g8 := Nat.le_of_ble_eq_true g8
          split at h
          · rename_i hw
            unfold jmac at h
            split at h
            · rename_i i
              split at h
              · rename_i k0 hk0
                split at h
                · rename_i g7
                  rw [Bool.and_eq_true] at g7
                  have e7 := jbeq g7.1; subst e7
                  obtain ⟨b0, b1, b2, h⟩ := jnx_b h
                  refine M.2.2 p fl i t c k0 (hs _ List.mem_cons_self) g8 hk0 ls st σ (Nat.le_of_ble_eq_true g7.2) b0 b1 b2 ?_
                  exact jx_ok M hL f false _ rest _ _ _ x (fun q hq => hs q (List.mem_cons_of_mem _ hq)) (fun e => by rw [hw] at e; cases e) h hk
                · cases h
              · cases h
            · cases h
          · cases h
        · rename_i g8
          have g8 : fl < 8 := Nat.lt_of_not_le fun g => g8 (Nat.ble_eq_true_of_le g)
          refine M.1 p n fl I t c (hs _ List.mem_cons_self) g8 R mk _ _ ls st σ x h0 (fun ls1 st1 σ1 w h => ?_) (fun q ls1 st1 σ1 w h => ?_) (fun σ1 v w h => ?_) h
          · exact jx_ok M hL f false _ rest ls1 st1 σ1 x (fun q hq => hs q (List.mem_cons_of_mem _ hq)) w h hk
          · exact jx_ok M hL f false _ _ ls1 st1 σ1 x (fun q hq => jfind_sub _ _ _ hq) w h hk
          · exact hL.1 σ1 v x w h hk
      · split at h
        · rename_i u hu
          exact hL.2 _ (jlk_mem hu) ls st σ x h0 h hk
        · cases h
    · cases h
/-- a unit's text runs -/
theorem jLv.run {C : List Int → jS → Option R} (hL : jLv J m.2.1 σ0 σ' r mk U k) (M : jClo J m σ0 σ' r) (hC : ∀ vs σ x, C vs σ = some x → jrun m f b mk U pc sig ts vs σ = some x) :
    ∀ vs σ x, (m.2.1 = false → σ = σ0) → C vs σ = some x → k x → J pc (jzl sig vs) (jzr sig ts vs) σ := fun vs σ x hi h hk =>
  jx_ok M hL f b pc _ _ _ σ x (fun q hq => jfind_sub _ _ _ hq) hi (hC vs σ x h) hk
theorem jLv.put {C : List Int → jS → Option R} (hL : jLv J m.2.1 σ0 σ' r mk U k) (M : jClo J m σ0 σ' r) (h : ∀ vs σ x, (m.2.1 = false → σ = σ0) → C vs σ = some x → k x → J pc (jzl sig vs) (jzr sig ts vs) σ) : jLv J m.2.1 σ0 σ' r mk ((pc, jun sig ts C) :: U) k := by
  refine ⟨hL.1, fun q hq => ?_⟩
  rcases List.mem_cons.mp hq with rfl | hq
  · intro ls st σ x hi hx hk
    dsimp only at hx ⊢
    unfold jun at hx
    split at hx
    · rename_i vs e
      split at hx
      · rename_i ws e'
        refine M.2.1 pc sig ts ls st σ vs ws e e' ?_
        rw [← jzr_app (jgets_b e).1]
        exact h _ σ x hi hx hk
      · cases hx
    · cases hx
  · exact hL.2 q hq
/-- a unit under another name -/
theorem jLv.weak {C C' : List Int → jS → Option R} {wr : Bool} (hL : jLv J wr σ0 σ' r mk ((pc, jun sig ts C) :: U) k) (e : ∀ vs σ x, C' vs σ = some x → C vs σ = some x) : jLv J wr σ0 σ' r mk ((pc, jun sig ts C') :: U) k := by
  refine ⟨hL.1, fun q hq => ?_⟩
  rcases List.mem_cons.mp hq with rfl | hq
  · intro ls st σ x hi hx hk
    refine hL.2 _ List.mem_cons_self ls st σ x hi ?_ hk
    dsimp only at hx ⊢
    unfold jun at hx ⊢
    split at hx
    · split at hx
      · exact e _ _ _ hx
      · cases hx
    · cases hx
  · exact hL.2 q (List.mem_cons_of_mem _ hq)
/-- a join -/
theorem jLv.add {C : List Int → jS → Option R} (hL : jLv J m.2.1 σ0 σ' r mk U k) (M : jClo J m σ0 σ' r) (hC : ∀ vs σ x, C vs σ = some x → jrun m f true mk U pc sig ts vs σ = some x) : jLv J m.2.1 σ0 σ' r mk ((pc, jun sig ts C) :: U) k := hL.put M (hL.run M hC)
theorem jClo.sub0 {ls : List (Nat × jT)} {σ : jS} {vs : List Int} (M : jClo J m σ0 σ' r) (e : jgets ls sig = some vs) (h : J pc (jzl sig vs) [] σ) : J pc ls [] σ := by
  refine M.2.1 pc sig [] ls [] σ vs [] e rfl ?_
  rw [List.append_nil]; exact h
/-- a loop that writes -/
theorem jLv.loopW {C : List Int → jS → Option ((jS × List Int) ⊕ R)} (hL : jLv J m.2.1 σ0 σ' r mk U k) (M : jClo J m σ0 σ' r) (hw : m.2.1 = true)
    (h : ∀ k' : (jS × List Int) ⊕ R → Prop, jLv J m.2.1 σ0 σ' r (jmkI mk) ((pc, jbkW sig) :: jlift U) k' → ∀ vs σ x, C vs σ = some x → k' x → J pc (jzl sig vs) [] σ) : jLv J m.2.1 σ0 σ' r mk ((pc, jun sig [] (jlpW C)) :: U) k := by
  have hend : ∀ vs, jzr sig [] vs = [] := jzr_nil sig
  refine hL.put M fun vs σ x _ hx hk => ?_
  rw [hend]
  let k' : (jS × List Int) ⊕ R → Prop := fun y => match y with
    | .inl s => J pc (jzl sig s.2) [] s.1
    | .inr y => k y
  have hin : jLv J m.2.1 σ0 σ' r (jmkI mk) ((pc, jbkW sig) :: jlift U) k' := by
    refine ⟨fun σ1 v x hi hx hk => ?_, fun q hq => ?_⟩
    · obtain ⟨y, h1, rfl⟩ := jinr_b hx
      exact hL.1 σ1 v y hi h1 hk
    · rcases List.mem_cons.mp hq with rfl | hq
      · intro ls st σ x _ hx hk
        dsimp only at hx ⊢
        unfold jbkW at hx
        split at hx
        · split at hx
          · rename_i vs e
            cases hx
            exact M.sub0 e hk
          · cases hx
        · cases hx
      · obtain ⟨q', hq', rfl⟩ := List.mem_map.mp hq
        intro ls st σ x hi hx hk
        obtain ⟨y, h1, rfl⟩ := jinr_b hx
        exact hL.2 q' hq' ls st σ y hi h1 hk
  have hb := h k' hin
  have key := jloop_ind (body := fun s : jS × List Int => C s.2 s.1) (P := fun s y => k y → J pc (jzl sig s.2) [] s.1) (fun s s' y hs ih hy => hb s.2 s.1 (.inl s') hs (ih hy)) (fun s y hs hy => hb s.2 s.1 (.inr y) hs hy) (s := (σ, vs)) (r := x) hx
  exact key hk
/-- a loop that only reads -/
theorem jLv.loopR {C : List Int → jS → Option (List Int ⊕ R)} (hL : jLv J m.2.1 σ0 σ' r mk U k) (M : jClo J m σ0 σ' r) (hw : m.2.1 = false)
    (h : ∀ k' : List Int ⊕ R → Prop, jLv J m.2.1 σ0 σ' r (jmkI mk) ((pc, jbkR sig) :: jlift U) k' → ∀ vs x, C vs σ0 = some x → k' x → J pc (jzl sig vs) [] σ0) : jLv J m.2.1 σ0 σ' r mk ((pc, jun sig [] (jlpR C)) :: U) k := by
  have hend : ∀ vs, jzr sig [] vs = [] := jzr_nil sig
  refine hL.put M fun vs σ x hi hx hk => ?_
  rw [hend]
  have hi := hi hw
  subst hi
  let k' : List Int ⊕ R → Prop := fun y => match y with
    | .inl s => J pc (jzl sig s) [] σ
    | .inr y => k y
  have hin : jLv J m.2.1 σ σ' r (jmkI mk) ((pc, jbkR sig) :: jlift U) k' := by
    refine ⟨fun σ1 v x hi hx hk => ?_, fun q hq => ?_⟩
    · obtain ⟨y, h1, rfl⟩ := jinr_b hx
      exact hL.1 σ1 v y hi h1 hk
    · rcases List.mem_cons.mp hq with rfl | hq
      · intro ls st σ2 x2 hi2 hx2 hk2
        have hi2 := hi2 hw
        subst hi2
        revert hk2 hx2
        intro hx hk
        dsimp only at hx ⊢
        unfold jbkR at hx
        split at hx
        · split at hx
          · rename_i vs e
            cases hx
            exact M.sub0 e hk
          · cases hx
        · cases hx
      · obtain ⟨q', hq', rfl⟩ := List.mem_map.mp hq
        intro ls st σ x hi hx hk
        obtain ⟨y, h1, rfl⟩ := jinr_b hx
        exact hL.2 q' hq' ls st σ y hi h1 hk
  have hb := h k' hin
  have key := jloop_ind (body := fun s : List Int => C s σ) (P := fun s y => k y → J pc (jzl sig s) [] σ) (fun s s' y hs ih hy => hb s (.inl s') hs (ih hy)) (fun s y hs hy => hb s (.inr y) hs hy) (s := vs) (r := x) hx
  exact key hk
end jUnit
theorem jwords_g' (st : List jT) : jwords (jgs st) = jwords st := by
  unfold jwords jgs
  rw [List.map_map]
  congr 1
  apply List.map_congr_left
  intro v _
  have e : ((jgm v).1 = 1) ↔ v.1 = 1 := by have := jgm_1 v; rw [Bool.eq_iff_iff] at this; simpa using this
  simp only [Function.comp, e]
/-! the two judgements -/
def jJ1 (ty : Bool) (G : jG) (X : jX) (nL : Nat) (σ' : jS) (r : jT) : jJ := fun pc ls st σ => (∀ q ∈ ls, jtk ty σ q.2) → (∀ v ∈ st, jtk ty σ v) → jWP G X nL pc (jgl ls) (jgs st) σ σ' r
def jJ2 (σ' : jS) : jJ := fun _ ls st σ => (∀ q ∈ ls, jtk true σ q.2) → (∀ v ∈ st, jtk true σ v) → jEx σ σ'
/-- a row is as the bytes are -/
def jRok (cc : ByteArray) (q : jRow) : Prop := if 8 ≤ q.2.2.2.1 then (∀ i, q.2.1 = .new i → decode cc q.1 = .ok (.new i, 3)) ∧ decode cc (q.1 + 3) = .ok (.dup, 1) ∧ decode cc (q.1 + 4) = .ok (.invokespecial q.2.2.2.2.1.toNat, 3) ∧ q.2.2.2.2.1.toNat < 65536 else decode cc q.1 = .ok (q.2.1, q.2.2.1)
/-- an exception that is made -/
def jXok (own : String) (d : Nat) (q : Nat × Int) : Prop := ∃ (ix ic ci : Nat) (rr : vw_C) (names : List String), q.1 = 65536 * ix + ic ∧ ic < 65536 ∧ q.2 = 2000 + (ci : Int) ∧ jCl[ci]? = some rr ∧ ci < 1000 ∧ rr.2.2 = 6 ∧ Cond.classLink own ix rr.1 ∈ lw_all ∧ Cond.instantiable rr.1 rr.2.2 ∈ lw_all ∧ Cond.initialized rr.1 ∈ lw_all ∧ Bundle.fit rr.1 = true ∧ (∀ n ∈ names, Bundle.fit n = true) ∧ (∀ w ∈ Bundle.ownAtoms0 own ic rr.1 names, w ∈ lw_all ∨ (w ∈ lw_tbl ∧ jnest w = true) ∨ jstw w = true) ∧ names.length + 4 ≤ d
/-- what is known of a method's text -/
def jmOk (G : jG) (X : jX) (l : Launch) (cc : ByteArray) (own : String) (d : Nat) (nm : String) (ret : Option FieldType) (m : jMd) : Prop := jC G X cc own m.1 ret d nm ∧ (jFl X.2.1 ∧ jHk G X m.1 m.2.2.2.2.2.2.2) ∧ X.2.1 = l ∧ (∀ q ∈ m.2.2.2.2.1, jRok cc q) ∧ jrtOk m.2.2.2.1 ret ∧ (∀ q ∈ m.2.2.2.2.2.1, jKOk G l own d nm m.2.1 m.2.2.1 m.2.2.2.2.2.2.2 q) ∧ ∀ q ∈ m.2.2.2.2.2.2.1, jXok own d q
theorem jClo_1 {G : jG} {X : jX} {l : Launch} {cc : ByteArray} {own nm : String} {d : Nat} {ret : Option FieldType} {m : jMd} {σ0 σ' : jS} {r : jT} (M : jmOk G X l cc own d nm ret m) : jClo (jJ1 m.2.2.1 G X m.1 σ' r) m σ0 σ' r := by
  obtain ⟨C, hH, hXl, hT, hrt, hE, hXs⟩ := M
  obtain ⟨nL, wr, ty, rt, rows, E, Xs, hs⟩ := m
  refine ⟨?_, ?_, ?_⟩
  · intro p n fl I t c hq h8 R mk kn kj ls st σ x h0 hkn hkj hmk h
    unfold jJ1 at hkn hkj ⊢
    intro hl hsk
    have hd : decode cc p = .ok (I, n) := by
      have := hT (p, I, n, fl, t, c) hq
      unfold jRok at this
      rw [if_neg (by show ¬ 8 ≤ fl; omega)] at this
      exact this
    exact jstep_1 (hs := hs) (wr := wr) (ty := ty) (rt := rt) (E := E) (kn := kn) (kj := kj) C hH hXl hd hrt hE hl hsk (fun ls1 st1 σ1 w a b h => hkn ls1 st1 σ1 (fun e => (w e).trans (h0 e)) h a b) (fun q ls1 st1 σ1 w a b h => hkj q ls1 st1 σ1 (fun e => (w e).trans (h0 e)) h a b) (fun σ1 v w h => hmk σ1 v (fun e => (w e).trans (h0 e)) h) h
  · intro pc sig ts ls st σ vs ws e e' h
    unfold jJ1 at h ⊢
    intro hl hs
    obtain ⟨h1, ⟨ks, h2⟩, h3⟩ := jgets_b e
    obtain ⟨h4, h5⟩ := jsts_b e'
    refine jr_sub ks (h2 ws) ?_
    rw [h4]
    exact h (h3 _ σ ws hl) (h5 _ σ hs)
  · intro p fl i t c k hq h8 hk ls st σ hw b0 b1 b2 h
    unfold jJ1 at h ⊢
    intro hl hs
    have hr := hT _ hq
    unfold jRok at hr
    rw [if_pos (by show 8 ≤ fl; omega)] at hr
    obtain ⟨d1, d2, d3, d4⟩ := hr
    obtain ⟨ix, ic, ci, rr, names, x1, x2, x3, x4, x5, x6, x7, x8, x9, x10, x11, x12, x13⟩ := hXs _ (jlk_mem hk)
    have e1 : 65536 * i + t.toNat = 65536 * ix + ic := x1
    have d4 : t.toNat < 65536 := d4
    have hi : i = ix := by omega
    have hj : t.toNat = ic := by omega
    subst hi hj
    dsimp only at x3
    subst x3
    refine jr_mkX C hH.1 ci x4 x5 x6 x7 x8 x9 x10 x11 x12 (d1 i rfl) d2 d3 x13 (by rw [jwords_g']; exact hw) b1 b2 ?_
    have := h (fun q hq => (hl q hq).ext fun _ => jEx_mk) (jst_k (by show 2 < 16; decide) (jst_e hs fun _ => jEx_mk))
    rw [jgs_c] at this
    exact this
theorem jClo_2 {m : jMd} {σ0 σ' : jS} {r : jT} (hty : m.2.2.1 = true) (hE : ∀ q ∈ m.2.2.2.2.2.1, jSt2 m.2.1 m.2.2.1 q.2) : jClo (jJ2 σ') m σ0 σ' r := by
  obtain ⟨nL, wr, ty, rt, rows, E, Xs, hs⟩ := m
  refine ⟨?_, ?_, ?_⟩
  · intro p n fl I t c hq h8 R mk kn kj ls st σ x h0 hkn hkj hmk h
    unfold jJ2 at hkn hkj ⊢
    intro hl hs
    dsimp only at hty
    rw [← hty] at hl hs
    refine jstep_2 (wr := wr) (ty := ty) (rt := rt) (E := E) (kn := kn) (kj := kj) hty hE hl hs (fun ls1 st1 σ1 he w a b h => ?_) (fun q ls1 st1 σ1 he w a b h => ?_) (fun σ1 v he w h => ?_) h
    · rw [hty] at a b
      exact he.trans (hkn ls1 st1 σ1 (fun e => (w e).trans (h0 e)) h a b)
    · rw [hty] at a b
      exact he.trans (hkj q ls1 st1 σ1 (fun e => (w e).trans (h0 e)) h a b)
    · rw [← (hmk σ1 v (fun e => (w e).trans (h0 e)) h).1]; exact he
  · intro pc sig ts ls st σ vs ws e e' h
    unfold jJ2 at h ⊢
    intro hl hs
    exact h ((jgets_b e).2.2 _ σ ws hl) ((jsts_b e').2 _ σ hs)
  · intro p fl i t c k hq h8 hk ls st σ hw b0 b1 b2 h
    unfold jJ2 at h ⊢
    intro hl hs
    exact (jEx_mk (k := k)).trans (h (fun q hq => (hl q hq).ext fun _ => jEx_mk) (jst_k (by show 2 < 16; decide) (jst_e hs fun _ => jEx_mk)))
/-- a method by its arguments' tags and its result's tag -/
def jFW (ty : Bool) (tags : List Nat) (t : Nat) (C : List Int → jS → Option (jS × Int)) (As : List jT) (σ σ' : jS) (r : jT) : Prop := ∃ vs v, vs.length = tags.length ∧ As = jgs (jzs tags vs) ∧ (∀ v ∈ jzs tags vs, jtk ty σ v) ∧ C vs σ = some (σ', v) ∧ r = (t, v)
def jFR (ty : Bool) (tags : List Nat) (t : Nat) (C : List Int → jS → Option Int) (As : List jT) (σ σ' : jS) (r : jT) : Prop := ∃ vs v, vs.length = tags.length ∧ As = jgs (jzs tags vs) ∧ (∀ v ∈ jzs tags vs, jtk ty σ v) ∧ C vs σ = some v ∧ r = (t, v) ∧ σ' = σ
def jmkW (t : Nat) (σ : jS) (v : jT) : Option (jS × Int) := if Nat.beq v.1 t then some (σ, v.2) else none
def jmkR (t : Nat) (_ : jS) (v : jT) : Option Int := if Nat.beq v.1 t then some v.2 else none
def jXt {α : Type} (ty : Bool) (tags : List Nat) (C : List Int → jS → Option (jS × α)) : Prop := ty = true → ∀ vs σ q, vs.length = tags.length → (∀ v ∈ jzs tags vs, jtk ty σ v) → C vs σ = some q → jEx σ q.1
def jsig : Nat → List Nat → List (Nat × Nat)
  | _, [] => []
  | i, t :: ts => (i, t) :: jsig (if Nat.beq t 1 then i + 2 else i + 1) ts
theorem jargs_sig : ∀ (tags : List Nat) (vs : List Int) (i : Nat), vs.length = tags.length → jargs i (jgs (jzs tags vs)) = jgl (jzl (jsig i tags) vs)
  | [], vs, i, _ => by cases vs <;> rfl
  | t :: ts, [], i, h => by cases h
  | t :: ts, v :: vs, i, h => by
    show (i, jgm (t, v)) :: _ = (i, jgm (t, v)) :: _
    congr 1
    rw [show List.map jgm (jzs ts vs) = jgs (jzs ts vs) from rfl, jargs_sig ts vs _ (Nat.succ.inj h)]
    have e : ((jgm (t, v)).1 = 1) ↔ t = 1 := by have := jgm_1 (t, v); rw [Bool.eq_iff_iff] at this; simpa using this
    congr 2
    by_cases e' : t = 1
    · subst e'; rfl
    · rw [if_neg (fun g => e' (e.mp g)), if_neg (fun g => e' (jbeq g))]
theorem jzl_mem : ∀ {tags : List Nat} {vs : List Int} {i : Nat} {P : jT → Prop}, (∀ v ∈ jzs tags vs, P v) → ∀ q ∈ jzl (jsig i tags) vs, P q.2
  | [], vs, i, P, _, q, hq => by cases vs <;> cases hq
  | t :: ts, [], i, P, _, q, hq => by cases hq
  | t :: ts, v :: vs, i, P, h, q, hq => by
    rcases List.mem_cons.mp hq with rfl | hq
    · exact h _ List.mem_cons_self
    · exact jzl_mem (fun v hv => h v (List.mem_cons_of_mem _ hv)) q hq
def jtw : List Nat → Nat
  | [] => 0
  | t :: ts => (if t = 1 then 2 else 1) + jtw ts
theorem jtw_words : ∀ (tags : List Nat) (vs : List Int), vs.length = tags.length → jwords (jgs (jzs tags vs)) = jtw tags
  | [], vs, _ => by cases vs <;> rfl
  | t :: ts, [], h => by cases h
  | t :: ts, v :: vs, h => by
    have := jtw_words ts vs (Nat.succ.inj h)
    unfold jwords at this ⊢
    unfold jtw
    rw [← this]
    have e : ((jgm (t, v)).1 = 1) ↔ t = 1 := by have := jgm_1 (t, v); rw [Bool.eq_iff_iff] at this; simpa using this
    show (if (jgm (t, v)).1 = 1 then 2 else 1) + _ = _
    by_cases e' : t = 1
    · rw [if_pos (e.mpr e'), if_pos e']; rfl
    · rw [if_neg (fun g => e' (e.mp g)), if_neg e']; rfl
theorem jmethW {G : jG} {l : Launch} {d t : Nat} {y : MethodName} {cc : ByteArray} {ret : Option FieldType} {m : jMd} {tags : List Nat} {C : List Int → jS → Option (jS × Int)} (hy : plainName y.cls = true) (hw : jtw tags ≤ m.1) (hT : ∀ q ∈ m.2.2.2.2.1, jRok cc q) (hrt : jrtOk m.2.2.2.1 ret) (hE : ∀ q ∈ m.2.2.2.2.2.1, jKOk G l y.cls d y.name m.2.1 m.2.2.1 [] q) (hXs : ∀ q ∈ m.2.2.2.2.2.2.1, jXok y.cls d q) (hhs : m.2.2.2.2.2.2.2 = []) (hwr : m.2.1 = true)
    (body : ∀ (J : jJ) (σ0 σ' : jS) (r : jT) (k : jS × Int → Prop), jClo J m σ0 σ' r → jLv J m.2.1 σ0 σ' r (jmkW t) [] k → ∀ vs σ x, C vs σ = some x → k x → J 0 (jzl (jsig 0 tags) vs) [] σ) : jM G l d y (ws_ y cc m.1 ret) (jFW m.2.2.1 tags t C) ∧ jXt m.2.2.1 tags C := by
  have hlv : ∀ (J : jJ) (σ0 σ' : jS) (v : Int), jLv J m.2.1 σ0 σ' (t, v) (jmkW t) [] (fun x => x = (σ', v)) := fun J σ0 σ' v => by
    refine ⟨fun σ1 w x _ hx hk => ?_, fun q hq => by cases hq⟩
    unfold jmkW at hx; split at hx
    · rename_i g; have := jbeq g; cases hx; cases hk; exact ⟨rfl, by rw [← this]⟩
    · cases hx
  refine ⟨jM.ofW hy ?_ ?_, fun hty vs σ q hlen htk h => ?_⟩
  · rintro As σ σ' r ⟨vs, v, h1, rfl, -, -, -⟩
    rw [jtw_words _ _ h1]; exact hw
  · rintro X As σ σ' r - ⟨vs, v, h1, rfl, h2, h3, rfl⟩ hXl hC hH
    rw [jargs_sig _ _ _ h1]
    exact body (jJ1 m.2.2.1 G X m.1 σ' (t, v)) σ σ' (t, v) (fun x => x = (σ', v)) (jClo_1 ⟨hC, ⟨hH.2, by rw [hhs]; exact jHk_nil hC hH⟩, hXl, hT, hrt, by rw [hhs]; exact hE, hXs⟩) (hlv _ _ _ _) vs σ (σ', v) h3 rfl (jzl_mem h2) (fun v hv => by cases hv)
  · obtain ⟨σ', v⟩ := q
    refine body (jJ2 σ') σ σ' (t, v) (fun x => x = (σ', v)) (jClo_2 hty fun q hq => (hE q hq).2) (hlv _ _ _ _) vs σ (σ', v) h rfl (jzl_mem ?_) (fun v hv => by cases hv)
    rw [hty] at htk; exact htk
def jmkX (t : Nat) (σ : jS) (v : jT) : Option (jS × Bool × Int) := if Nat.beq v.1 t then some (σ, false, v.2) else if Nat.beq v.1 9 then some (σ, true, v.2) else none
def jrx (t : Nat) (b : Bool) (v : Int) : jT := if b = true then (9, v) else (t, v)
/-- a method that may throw -/
def jFX (ty : Bool) (tags : List Nat) (t : Nat) (C : List Int → jS → Option (jS × Bool × Int)) (As : List jT) (σ σ' : jS) (r : jT) : Prop := ∃ vs b v, vs.length = tags.length ∧ As = jgs (jzs tags vs) ∧ (∀ v ∈ jzs tags vs, jtk ty σ v) ∧ C vs σ = some (σ', b, v) ∧ r = jrx t b v
theorem jmethX {G : jG} {l : Launch} {d t : Nat} {y : MethodName} {cc : ByteArray} {ret : Option FieldType} {m : jMd} {tags : List Nat} {C : List Int → jS → Option (jS × Bool × Int)} (hy : plainName y.cls = true) (hw : jtw tags ≤ m.1) (hT : ∀ q ∈ m.2.2.2.2.1, jRok cc q) (hrt : jrtOk m.2.2.2.1 ret) (hE : ∀ q ∈ m.2.2.2.2.2.1, jKOk G l y.cls d y.name m.2.1 m.2.2.1 [] q) (hXs : ∀ q ∈ m.2.2.2.2.2.2.1, jXok y.cls d q) (hhs : m.2.2.2.2.2.2.2 = []) (hwr : m.2.1 = true)
    (body : ∀ (J : jJ) (σ0 σ' : jS) (r : jT) (k : jS × Bool × Int → Prop), jClo J m σ0 σ' r → jLv J m.2.1 σ0 σ' r (jmkX t) [] k → ∀ vs σ x, C vs σ = some x → k x → J 0 (jzl (jsig 0 tags) vs) [] σ) : jM G l d y (ws_ y cc m.1 ret) (jFX m.2.2.1 tags t C) ∧ jXt m.2.2.1 tags C := by
  have hlv : ∀ (J : jJ) (σ0 σ' : jS) (b : Bool) (v : Int), jLv J m.2.1 σ0 σ' (jrx t b v) (jmkX t) [] (fun x => x = (σ', b, v)) := fun J σ0 σ' b v => by
    refine ⟨fun σ1 w x _ hx hk => ?_, fun q hq => by cases hq⟩
    unfold jmkX at hx; split at hx
    · rename_i g; have := jbeq g; cases hx; cases hk; exact ⟨rfl, by unfold jrx; rw [if_neg (by decide), ← this]⟩
    · split at hx
      · rename_i g; have := jbeq g; cases hx; cases hk; exact ⟨rfl, by unfold jrx; rw [if_pos rfl, ← this]⟩
      · cases hx
  refine ⟨jM.ofW hy ?_ ?_, fun hty vs σ q hlen htk h => ?_⟩
  · rintro As σ σ' r ⟨vs, b, v, h1, rfl, -, -, -⟩
    rw [jtw_words _ _ h1]; exact hw
  · rintro X As σ σ' r - ⟨vs, b, v, h1, rfl, h2, h3, rfl⟩ hXl hC hH
    rw [jargs_sig _ _ _ h1]
    exact body (jJ1 m.2.2.1 G X m.1 σ' (jrx t b v)) σ σ' (jrx t b v) (fun x => x = (σ', b, v)) (jClo_1 ⟨hC, ⟨hH.2, by rw [hhs]; exact jHk_nil hC hH⟩, hXl, hT, hrt, by rw [hhs]; exact hE, hXs⟩) (hlv _ _ _ _ _) vs σ (σ', b, v) h3 rfl (jzl_mem h2) (fun v hv => by cases hv)
  · obtain ⟨σ', b, v⟩ := q
    refine body (jJ2 σ') σ σ' (jrx t b v) (fun x => x = (σ', b, v)) (jClo_2 hty fun q hq => (hE q hq).2) (hlv _ _ _ _ _) vs σ (σ', b, v) h rfl (jzl_mem ?_) (fun v hv => by cases hv)
    rw [hty] at htk; exact htk
theorem jmethR {G : jG} {l : Launch} {d t : Nat} {y : MethodName} {cc : ByteArray} {ret : Option FieldType} {m : jMd} {tags : List Nat} {C : List Int → jS → Option Int} (hy : plainName y.cls = true) (hw : jtw tags ≤ m.1) (hT : ∀ q ∈ m.2.2.2.2.1, jRok cc q) (hrt : jrtOk m.2.2.2.1 ret) (hE : ∀ q ∈ m.2.2.2.2.2.1, jKOk G l y.cls d y.name m.2.1 m.2.2.1 [] q) (hXs : ∀ q ∈ m.2.2.2.2.2.2.1, jXok y.cls d q) (hhs : m.2.2.2.2.2.2.2 = []) (hwr : m.2.1 = false)
    (body : ∀ (J : jJ) (σ0 σ' : jS) (r : jT) (k : Int → Prop), jClo J m σ0 σ' r → jLv J m.2.1 σ0 σ' r (jmkR t) [] k → ∀ vs σ x, (m.2.1 = false → σ = σ0) → C vs σ = some x → k x → J 0 (jzl (jsig 0 tags) vs) [] σ) : jM G l d y (ws_ y cc m.1 ret) (jFR m.2.2.1 tags t C) := by
  refine jM.ofW hy ?_ ?_
  · rintro As σ σ' r ⟨vs, v, h1, rfl, -, -, -⟩
    rw [jtw_words _ _ h1]; exact hw
  · rintro X As σ σ' r - ⟨vs, v, h1, rfl, h2, h3, rfl, rfl⟩ hXl hC hH
    rw [jargs_sig _ _ _ h1]
    refine body (jJ1 m.2.2.1 G X m.1 σ' (t, v)) σ' σ' (t, v) (fun x => x = v) (jClo_1 ⟨hC, ⟨hH.2, by rw [hhs]; exact jHk_nil hC hH⟩, hXl, hT, hrt, by rw [hhs]; exact hE, hXs⟩) ⟨?_, fun q hq => by cases hq⟩ vs σ' v (fun _ => rfl) h3 rfl (jzl_mem h2) (fun v hv => by cases hv)
    intro σ1 w x hi hx hk
    unfold jmkR at hx; split at hx
    · rename_i g; have := jbeq g; cases hx; cases hk; exact ⟨hi hwr, by rw [← this]⟩
    · cases hx
end
/-- functions by their list of arguments -/
def jc0 {α : Type} (f : jS → Option α) (vs : List Int) (σ : jS) : Option α := match vs with
  | [] => f σ 
  | _ => none
theorem jc0_ok {α : Type} {f f0 : jS → Option α} {g : List Int → jS → Option α} (e : f = f0) (h : ∀ σ , f0 σ  = g [] σ) : ∀ vs σ x, jc0 f vs σ = some x → g vs σ = some x := by
  subst e
  intro vs σ x hx
  unfold jc0 at hx; split at hx
  · rw [← h]; exact hx
  · cases hx
def jc1 {α : Type} (f : jS → Int → Option α) (vs : List Int) (σ : jS) : Option α := match vs with
  | [x0] => f σ x0
  | _ => none
theorem jc1_ok {α : Type} {f f0 : jS → Int → Option α} {g : List Int → jS → Option α} (e : f = f0) (h : ∀ σ x0, f0 σ x0 = g [x0] σ) : ∀ vs σ x, jc1 f vs σ = some x → g vs σ = some x := by
  subst e
  intro vs σ x hx
  unfold jc1 at hx; split at hx
  · rw [← h]; exact hx
  · cases hx
def jc2 {α : Type} (f : jS → Int → Int → Option α) (vs : List Int) (σ : jS) : Option α := match vs with
  | [x0, x1] => f σ x0 x1
  | _ => none
theorem jc2_ok {α : Type} {f f0 : jS → Int → Int → Option α} {g : List Int → jS → Option α} (e : f = f0) (h : ∀ σ x0 x1, f0 σ x0 x1 = g [x0, x1] σ) : ∀ vs σ x, jc2 f vs σ = some x → g vs σ = some x := by
  subst e
  intro vs σ x hx
  unfold jc2 at hx; split at hx
  · rw [← h]; exact hx
  · cases hx
def jc3 {α : Type} (f : jS → Int → Int → Int → Option α) (vs : List Int) (σ : jS) : Option α := match vs with
  | [x0, x1, x2] => f σ x0 x1 x2
  | _ => none
theorem jc3_ok {α : Type} {f f0 : jS → Int → Int → Int → Option α} {g : List Int → jS → Option α} (e : f = f0) (h : ∀ σ x0 x1 x2, f0 σ x0 x1 x2 = g [x0, x1, x2] σ) : ∀ vs σ x, jc3 f vs σ = some x → g vs σ = some x := by
  subst e
  intro vs σ x hx
  unfold jc3 at hx; split at hx
  · rw [← h]; exact hx
  · cases hx
def jc4 {α : Type} (f : jS → Int → Int → Int → Int → Option α) (vs : List Int) (σ : jS) : Option α := match vs with
  | [x0, x1, x2, x3] => f σ x0 x1 x2 x3
  | _ => none
theorem jc4_ok {α : Type} {f f0 : jS → Int → Int → Int → Int → Option α} {g : List Int → jS → Option α} (e : f = f0) (h : ∀ σ x0 x1 x2 x3, f0 σ x0 x1 x2 x3 = g [x0, x1, x2, x3] σ) : ∀ vs σ x, jc4 f vs σ = some x → g vs σ = some x := by
  subst e
  intro vs σ x hx
  unfold jc4 at hx; split at hx
  · rw [← h]; exact hx
  · cases hx
def jc5 {α : Type} (f : jS → Int → Int → Int → Int → Int → Option α) (vs : List Int) (σ : jS) : Option α := match vs with
  | [x0, x1, x2, x3, x4] => f σ x0 x1 x2 x3 x4
  | _ => none
theorem jc5_ok {α : Type} {f f0 : jS → Int → Int → Int → Int → Int → Option α} {g : List Int → jS → Option α} (e : f = f0) (h : ∀ σ x0 x1 x2 x3 x4, f0 σ x0 x1 x2 x3 x4 = g [x0, x1, x2, x3, x4] σ) : ∀ vs σ x, jc5 f vs σ = some x → g vs σ = some x := by
  subst e
  intro vs σ x hx
  unfold jc5 at hx; split at hx
  · rw [← h]; exact hx
  · cases hx
def jc6 {α : Type} (f : jS → Int → Int → Int → Int → Int → Int → Option α) (vs : List Int) (σ : jS) : Option α := match vs with
  | [x0, x1, x2, x3, x4, x5] => f σ x0 x1 x2 x3 x4 x5
  | _ => none
theorem jc6_ok {α : Type} {f f0 : jS → Int → Int → Int → Int → Int → Int → Option α} {g : List Int → jS → Option α} (e : f = f0) (h : ∀ σ x0 x1 x2 x3 x4 x5, f0 σ x0 x1 x2 x3 x4 x5 = g [x0, x1, x2, x3, x4, x5] σ) : ∀ vs σ x, jc6 f vs σ = some x → g vs σ = some x := by
  subst e
  intro vs σ x hx
  unfold jc6 at hx; split at hx
  · rw [← h]; exact hx
  · cases hx
def jc7 {α : Type} (f : jS → Int → Int → Int → Int → Int → Int → Int → Option α) (vs : List Int) (σ : jS) : Option α := match vs with
  | [x0, x1, x2, x3, x4, x5, x6] => f σ x0 x1 x2 x3 x4 x5 x6
  | _ => none
theorem jc7_ok {α : Type} {f f0 : jS → Int → Int → Int → Int → Int → Int → Int → Option α} {g : List Int → jS → Option α} (e : f = f0) (h : ∀ σ x0 x1 x2 x3 x4 x5 x6, f0 σ x0 x1 x2 x3 x4 x5 x6 = g [x0, x1, x2, x3, x4, x5, x6] σ) : ∀ vs σ x, jc7 f vs σ = some x → g vs σ = some x := by
  subst e
  intro vs σ x hx
  unfold jc7 at hx; split at hx
  · rw [← h]; exact hx
  · cases hx
def jc8 {α : Type} (f : jS → Int → Int → Int → Int → Int → Int → Int → Int → Option α) (vs : List Int) (σ : jS) : Option α := match vs with
  | [x0, x1, x2, x3, x4, x5, x6, x7] => f σ x0 x1 x2 x3 x4 x5 x6 x7
  | _ => none
theorem jc8_ok {α : Type} {f f0 : jS → Int → Int → Int → Int → Int → Int → Int → Int → Option α} {g : List Int → jS → Option α} (e : f = f0) (h : ∀ σ x0 x1 x2 x3 x4 x5 x6 x7, f0 σ x0 x1 x2 x3 x4 x5 x6 x7 = g [x0, x1, x2, x3, x4, x5, x6, x7] σ) : ∀ vs σ x, jc8 f vs σ = some x → g vs σ = some x := by
  subst e
  intro vs σ x hx
  unfold jc8 at hx; split at hx
  · rw [← h]; exact hx
  · cases hx
def jc9 {α : Type} (f : jS → Int → Int → Int → Int → Int → Int → Int → Int → Int → Option α) (vs : List Int) (σ : jS) : Option α := match vs with
  | [x0, x1, x2, x3, x4, x5, x6, x7, x8] => f σ x0 x1 x2 x3 x4 x5 x6 x7 x8
  | _ => none
theorem jc9_ok {α : Type} {f f0 : jS → Int → Int → Int → Int → Int → Int → Int → Int → Int → Option α} {g : List Int → jS → Option α} (e : f = f0) (h : ∀ σ x0 x1 x2 x3 x4 x5 x6 x7 x8, f0 σ x0 x1 x2 x3 x4 x5 x6 x7 x8 = g [x0, x1, x2, x3, x4, x5, x6, x7, x8] σ) : ∀ vs σ x, jc9 f vs σ = some x → g vs σ = some x := by
  subst e
  intro vs σ x hx
  unfold jc9 at hx; split at hx
  · rw [← h]; exact hx
  · cases hx
def jc10 {α : Type} (f : jS → Int → Int → Int → Int → Int → Int → Int → Int → Int → Int → Option α) (vs : List Int) (σ : jS) : Option α := match vs with
  | [x0, x1, x2, x3, x4, x5, x6, x7, x8, x9] => f σ x0 x1 x2 x3 x4 x5 x6 x7 x8 x9
  | _ => none
theorem jc10_ok {α : Type} {f f0 : jS → Int → Int → Int → Int → Int → Int → Int → Int → Int → Int → Option α} {g : List Int → jS → Option α} (e : f = f0) (h : ∀ σ x0 x1 x2 x3 x4 x5 x6 x7 x8 x9, f0 σ x0 x1 x2 x3 x4 x5 x6 x7 x8 x9 = g [x0, x1, x2, x3, x4, x5, x6, x7, x8, x9] σ) : ∀ vs σ x, jc10 f vs σ = some x → g vs σ = some x := by
  subst e
  intro vs σ x hx
  unfold jc10 at hx; split at hx
  · rw [← h]; exact hx
  · cases hx
def jc11 {α : Type} (f : jS → Int → Int → Int → Int → Int → Int → Int → Int → Int → Int → Int → Option α) (vs : List Int) (σ : jS) : Option α := match vs with
  | [x0, x1, x2, x3, x4, x5, x6, x7, x8, x9, x10] => f σ x0 x1 x2 x3 x4 x5 x6 x7 x8 x9 x10
  | _ => none
theorem jc11_ok {α : Type} {f f0 : jS → Int → Int → Int → Int → Int → Int → Int → Int → Int → Int → Int → Option α} {g : List Int → jS → Option α} (e : f = f0) (h : ∀ σ x0 x1 x2 x3 x4 x5 x6 x7 x8 x9 x10, f0 σ x0 x1 x2 x3 x4 x5 x6 x7 x8 x9 x10 = g [x0, x1, x2, x3, x4, x5, x6, x7, x8, x9, x10] σ) : ∀ vs σ x, jc11 f vs σ = some x → g vs σ = some x := by
  subst e
  intro vs σ x hx
  unfold jc11 at hx; split at hx
  · rw [← h]; exact hx
  · cases hx
def jc12 {α : Type} (f : jS → Int → Int → Int → Int → Int → Int → Int → Int → Int → Int → Int → Int → Option α) (vs : List Int) (σ : jS) : Option α := match vs with
  | [x0, x1, x2, x3, x4, x5, x6, x7, x8, x9, x10, x11] => f σ x0 x1 x2 x3 x4 x5 x6 x7 x8 x9 x10 x11
  | _ => none
theorem jc12_ok {α : Type} {f f0 : jS → Int → Int → Int → Int → Int → Int → Int → Int → Int → Int → Int → Int → Option α} {g : List Int → jS → Option α} (e : f = f0) (h : ∀ σ x0 x1 x2 x3 x4 x5 x6 x7 x8 x9 x10 x11, f0 σ x0 x1 x2 x3 x4 x5 x6 x7 x8 x9 x10 x11 = g [x0, x1, x2, x3, x4, x5, x6, x7, x8, x9, x10, x11] σ) : ∀ vs σ x, jc12 f vs σ = some x → g vs σ = some x := by
  subst e
  intro vs σ x hx
  unfold jc12 at hx; split at hx
  · rw [← h]; exact hx
  · cases hx
def jc13 {α : Type} (f : jS → Int → Int → Int → Int → Int → Int → Int → Int → Int → Int → Int → Int → Int → Option α) (vs : List Int) (σ : jS) : Option α := match vs with
  | [x0, x1, x2, x3, x4, x5, x6, x7, x8, x9, x10, x11, x12] => f σ x0 x1 x2 x3 x4 x5 x6 x7 x8 x9 x10 x11 x12
  | _ => none
theorem jc13_ok {α : Type} {f f0 : jS → Int → Int → Int → Int → Int → Int → Int → Int → Int → Int → Int → Int → Int → Option α} {g : List Int → jS → Option α} (e : f = f0) (h : ∀ σ x0 x1 x2 x3 x4 x5 x6 x7 x8 x9 x10 x11 x12, f0 σ x0 x1 x2 x3 x4 x5 x6 x7 x8 x9 x10 x11 x12 = g [x0, x1, x2, x3, x4, x5, x6, x7, x8, x9, x10, x11, x12] σ) : ∀ vs σ x, jc13 f vs σ = some x → g vs σ = some x := by
  subst e
  intro vs σ x hx
  unfold jc13 at hx; split at hx
  · rw [← h]; exact hx
  · cases hx
def jc14 {α : Type} (f : jS → Int → Int → Int → Int → Int → Int → Int → Int → Int → Int → Int → Int → Int → Int → Option α) (vs : List Int) (σ : jS) : Option α := match vs with
  | [x0, x1, x2, x3, x4, x5, x6, x7, x8, x9, x10, x11, x12, x13] => f σ x0 x1 x2 x3 x4 x5 x6 x7 x8 x9 x10 x11 x12 x13
  | _ => none
theorem jc14_ok {α : Type} {f f0 : jS → Int → Int → Int → Int → Int → Int → Int → Int → Int → Int → Int → Int → Int → Int → Option α} {g : List Int → jS → Option α} (e : f = f0) (h : ∀ σ x0 x1 x2 x3 x4 x5 x6 x7 x8 x9 x10 x11 x12 x13, f0 σ x0 x1 x2 x3 x4 x5 x6 x7 x8 x9 x10 x11 x12 x13 = g [x0, x1, x2, x3, x4, x5, x6, x7, x8, x9, x10, x11, x12, x13] σ) : ∀ vs σ x, jc14 f vs σ = some x → g vs σ = some x := by
  subst e
  intro vs σ x hx
  unfold jc14 at hx; split at hx
  · rw [← h]; exact hx
  · cases hx
