/-! the steps that go by a place of the pool -/
theorem jat_lt (a : ArrayType) : jat a ≤ 6 := by
  unfold jat; split <;> omega
theorem jk_getfield {I : Instr} {i n : Nat} (h : jkey I = some (16 * i, n)) : I = .getfield i ∧ n = 3 := by
  cases I <;> simp only [jkey, Option.some.injEq, Prod.mk.injEq, reduceCtorEq] at h
  case getfield j =>
    have : j = i := by omega
    subst this; exact ⟨rfl, by omega⟩
  case newarray a => have := jat_lt a; omega
  case multianewarray j k => split at h <;> simp only [Option.some.injEq, Prod.mk.injEq, reduceCtorEq] at h; omega
  all_goals omega
theorem jk_putfield {I : Instr} {i n : Nat} (h : jkey I = some (16 * i + 1, n)) : I = .putfield i ∧ n = 3 := by
  cases I <;> simp only [jkey, Option.some.injEq, Prod.mk.injEq, reduceCtorEq] at h
  case putfield j =>
    have : j = i := by omega
    subst this; exact ⟨rfl, by omega⟩
  case newarray a => have := jat_lt a; omega
  case multianewarray j k => split at h <;> simp only [Option.some.injEq, Prod.mk.injEq, reduceCtorEq] at h; omega
  all_goals omega
theorem jk_invokevirtual {I : Instr} {i n : Nat} (h : jkey I = some (16 * i + 2, n)) : I = .invokevirtual i ∧ n = 3 := by
  cases I <;> simp only [jkey, Option.some.injEq, Prod.mk.injEq, reduceCtorEq] at h
  case invokevirtual j =>
    have : j = i := by omega
    subst this; exact ⟨rfl, by omega⟩
  case newarray a => have := jat_lt a; omega
  case multianewarray j k => split at h <;> simp only [Option.some.injEq, Prod.mk.injEq, reduceCtorEq] at h; omega
  all_goals omega
theorem jk_invokestatic {I : Instr} {i n : Nat} (h : jkey I = some (16 * i + 3, n)) : I = .invokestatic i ∧ n = 3 := by
  cases I <;> simp only [jkey, Option.some.injEq, Prod.mk.injEq, reduceCtorEq] at h
  case invokestatic j =>
    have : j = i := by omega
    subst this; exact ⟨rfl, by omega⟩
  case newarray a => have := jat_lt a; omega
  case multianewarray j k => split at h <;> simp only [Option.some.injEq, Prod.mk.injEq, reduceCtorEq] at h; omega
  all_goals omega
theorem jk_invokespecial {I : Instr} {i n : Nat} (h : jkey I = some (16 * i + 4, n)) : I = .invokespecial i ∧ n = 3 := by
  cases I <;> simp only [jkey, Option.some.injEq, Prod.mk.injEq, reduceCtorEq] at h
  case invokespecial j =>
    have : j = i := by omega
    subst this; exact ⟨rfl, by omega⟩
  case newarray a => have := jat_lt a; omega
  case multianewarray j k => split at h <;> simp only [Option.some.injEq, Prod.mk.injEq, reduceCtorEq] at h; omega
  all_goals omega
theorem jk_new {I : Instr} {i n : Nat} (h : jkey I = some (16 * i + 5, n)) : I = .new i ∧ n = 3 := by
  cases I <;> simp only [jkey, Option.some.injEq, Prod.mk.injEq, reduceCtorEq] at h
  case new j =>
    have : j = i := by omega
    subst this; exact ⟨rfl, by omega⟩
  case newarray a => have := jat_lt a; omega
  case multianewarray j k => split at h <;> simp only [Option.some.injEq, Prod.mk.injEq, reduceCtorEq] at h; omega
  all_goals omega
theorem jk_anewarray {I : Instr} {i n : Nat} (h : jkey I = some (16 * i + 6, n)) : I = .anewarray i ∧ n = 3 := by
  cases I <;> simp only [jkey, Option.some.injEq, Prod.mk.injEq, reduceCtorEq] at h
  case anewarray j =>
    have : j = i := by omega
    subst this; exact ⟨rfl, by omega⟩
  case newarray a => have := jat_lt a; omega
  case multianewarray j k => split at h <;> simp only [Option.some.injEq, Prod.mk.injEq, reduceCtorEq] at h; omega
  all_goals omega
theorem jk_ldc {I : Instr} {i n : Nat} (h : jkey I = some (16 * i + 7, n)) : I = .ldc i ∧ n = 2 := by
  cases I <;> simp only [jkey, Option.some.injEq, Prod.mk.injEq, reduceCtorEq] at h
  case ldc j =>
    have : j = i := by omega
    subst this; exact ⟨rfl, by omega⟩
  case newarray a => have := jat_lt a; omega
  case multianewarray j k => split at h <;> simp only [Option.some.injEq, Prod.mk.injEq, reduceCtorEq] at h; omega
  all_goals omega
theorem jk_ldc_w {I : Instr} {i n : Nat} (h : jkey I = some (16 * i + 8, n)) : I = .ldc_w i ∧ n = 3 := by
  cases I <;> simp only [jkey, Option.some.injEq, Prod.mk.injEq, reduceCtorEq] at h
  case ldc_w j =>
    have : j = i := by omega
    subst this; exact ⟨rfl, by omega⟩
  case newarray a => have := jat_lt a; omega
  case multianewarray j k => split at h <;> simp only [Option.some.injEq, Prod.mk.injEq, reduceCtorEq] at h; omega
  all_goals omega
theorem jk_ldc2_w {I : Instr} {i n : Nat} (h : jkey I = some (16 * i + 9, n)) : I = .ldc2_w i ∧ n = 3 := by
  cases I <;> simp only [jkey, Option.some.injEq, Prod.mk.injEq, reduceCtorEq] at h
  case ldc2_w j =>
    have : j = i := by omega
    subst this; exact ⟨rfl, by omega⟩
  case newarray a => have := jat_lt a; omega
  case multianewarray j k => split at h <;> simp only [Option.some.injEq, Prod.mk.injEq, reduceCtorEq] at h; omega
  all_goals omega
theorem jk_checkcast {I : Instr} {i n : Nat} (h : jkey I = some (16 * i + 10, n)) : I = .checkcast i ∧ n = 3 := by
  cases I <;> simp only [jkey, Option.some.injEq, Prod.mk.injEq, reduceCtorEq] at h
  case checkcast j =>
    have : j = i := by omega
    subst this; exact ⟨rfl, by omega⟩
  case newarray a => have := jat_lt a; omega
  case multianewarray j k => split at h <;> simp only [Option.some.injEq, Prod.mk.injEq, reduceCtorEq] at h; omega
  all_goals omega
theorem jk_instanceof {I : Instr} {i n : Nat} (h : jkey I = some (16 * i + 11, n)) : I = .instanceof i ∧ n = 3 := by
  cases I <;> simp only [jkey, Option.some.injEq, Prod.mk.injEq, reduceCtorEq] at h
  case instanceof j =>
    have : j = i := by omega
    subst this; exact ⟨rfl, by omega⟩
  case newarray a => have := jat_lt a; omega
  case multianewarray j k => split at h <;> simp only [Option.some.injEq, Prod.mk.injEq, reduceCtorEq] at h; omega
  all_goals omega
theorem jk_getstatic {I : Instr} {i n : Nat} (h : jkey I = some (16 * i + 12, n)) : I = .getstatic i ∧ n = 3 := by
  cases I <;> simp only [jkey, Option.some.injEq, Prod.mk.injEq, reduceCtorEq] at h
  case getstatic j =>
    have : j = i := by omega
    subst this; exact ⟨rfl, by omega⟩
  case newarray a => have := jat_lt a; omega
  case multianewarray j k => split at h <;> simp only [Option.some.injEq, Prod.mk.injEq, reduceCtorEq] at h; omega
  all_goals omega
theorem jk_newarray {I : Instr} {i n : Nat} (hi : i ≤ 6) (h : jkey I = some (16 * i + 15, n)) : (∃ a, I = .newarray a ∧ jat a = i) ∧ n = 2 := by
  cases I <;> simp only [jkey, Option.some.injEq, Prod.mk.injEq, reduceCtorEq] at h
  case newarray a => exact ⟨⟨a, rfl, by omega⟩, by omega⟩
  case multianewarray j k => split at h <;> simp only [Option.some.injEq, Prod.mk.injEq, reduceCtorEq] at h; omega
  all_goals omega
theorem jk_athrow {I : Instr} {n : Nat} (h : jkey I = some (127, n)) : I = .athrow ∧ n = 1 := by
  cases I <;> simp only [jkey, Option.some.injEq, Prod.mk.injEq, reduceCtorEq] at h
  case athrow => exact ⟨rfl, by omega⟩
  case newarray a => have := jat_lt a; omega
  case multianewarray j k => split at h <;> simp only [Option.some.injEq, Prod.mk.injEq, reduceCtorEq] at h; omega
  all_goals omega
noncomputable section
/-- a state gets a name -/
def jls {α : Type} (σ : jS) (f : jS → α) : α := f σ
/-- a field: of a raw reference, of one of a type (what never changes is reckoned) -/
def jsG (ci k : Int) (t tag t' : Nat) (o : Option Int) : jStp := fun _ _ kn _ _ st σ => match st with
  | (ta, a) :: s => if Nat.beq ta 2 then (jrd σ ci a k).bind fun v => kn ((t, v) :: s) σ else if Nat.beq ta tag then (match o with
    | some o => kn ((t', a + o) :: s) σ
    | none => kn ((t, jf σ ci a k) :: s) σ) else none
  | _ => none
def jsP (ci k : Int) (t tag : Nat) : jStp := fun _ _ kn _ _ st σ => match st with
  | (tv, v) :: (ta, a) :: s => if jtc tv t then (if Nat.beq ta 2 then (jwr σ ci a k v).bind fun σ1 => kn s σ1 else if Nat.beq ta tag then jls (jp σ ci a k v) fun σ1 => kn s σ1 else none) else none
  | _ => none
def jsPz (ci k : Int) (tag : Nat) : jStp := fun _ _ kn _ _ st σ => match st with
  | (0, v) :: (ta, a) :: s => (jzb v).bind fun v => if Nat.beq ta 2 then (jwr σ ci a k v).bind fun σ1 => kn s σ1 else if Nat.beq ta tag then jls (jp σ ci a k v) fun σ1 => kn s σ1 else none
  | _ => none
def jsK (t : Nat) (z : Int) : jStp := fun _ _ kn _ _ st σ => kn ((t, z) :: st) σ
def jdf (c : Int) : Int → Int := fun i => jdef (jTy c.toNat i.toNat)
def jsNew (ci nf : Int) (tag : Nat) : jStp := fun _ _ kn _ _ st σ => (jnw σ ci nf (jdf ci)).bind fun q => kn ((tag, q.2) :: st) q.1
def jsNA (t v : Int) : jStp := fun _ _ kn _ _ st σ => match st with
  | (0, n) :: s => (jna σ t n v).bind fun q => kn ((2, q.2) :: s) q.1
  | _ => none
/-- a raw reference is of a type -/
def jct {α : Type} (σ : jS) (t : Nat) (v : Int) (x : Option α) : Option α := @ite _ (jTt σ t v) (Classical.propDecidable _) x none
theorem jct_b {α : Type} {σ : jS} {t : Nat} {v : Int} {x : Option α} {q : α} (h : jct σ t v x = some q) : jTt σ t v ∧ x = some q := by
  unfold jct at h; split at h
  · rename_i g; exact ⟨g, h⟩
  · cases h
theorem jct_ok {α : Type} {σ : jS} {t : Nat} {v : Int} {x : Option α} (h : jTt σ t v) : jct σ t v x = x := by unfold jct; rw [if_pos h]
def jcts {α : Type} (σ : jS) : List (Nat × Int) → Option α → Option α
  | [], x => x
  | q :: cs, x => jct σ q.1 q.2 (jcts σ cs x)
theorem jcts_b {α : Type} {σ : jS} {x : Option α} {q : α} : ∀ {cs : List (Nat × Int)}, jcts σ cs x = some q → (∀ c ∈ cs, jTt σ c.1 c.2) ∧ x = some q
  | [], h => ⟨fun _ g => (nomatch g), h⟩
  | c :: cs, h => by
    obtain ⟨h1, h2⟩ := jct_b h
    obtain ⟨h3, h4⟩ := jcts_b h2
    exact ⟨List.forall_mem_cons.mpr ⟨h1, h3⟩, h4⟩
/-- the arguments of a call: tags from the last to the first -/
def jpop : List Nat → List jT → List Int → List (Nat × Int) → Option (List Int × List (Nat × Int) × List jT)
  | [], st, acc, cs => some (acc, cs, st)
  | t :: ts, (a, v) :: st, acc, cs => if jtc a t then jpop ts st (v :: acc) cs else if Nat.beq a 2 && Nat.ble 16 t then jpop ts st (v :: acc) ((t, v) :: cs) else none
  | _, _, _, _ => none
def jck0 {α : Type} (a : Int) (x : Option α) : Option α := if 0 ≤ a then x else none
def jres {R : Type} (rc t : Nat) (v : Int) (σ1 : jS) (s : List jT) (kn : List jT → jS → Option R) : Option R := if Nat.beq rc 0 then kn (jpush (t, v) s) σ1 else jct σ1 rc v (kn ((rc, v) :: s) σ1)
def jsCW (ts : List Nat) (t rc : Nat) (C : List Int → jS → Option (jS × Int)) : jStp := fun _ _ kn _ _ st σ => match jpop ts st [] [] with
  | some (vs, cs, s) => if Nat.ble (jwords s) 33 then (jcts σ cs (C vs σ)).bind fun q => jres rc t q.2 q.1 s kn else none
  | _ => none
def jsCR (ts : List Nat) (t rc : Nat) (C : List Int → jS → Option Int) : jStp := fun _ _ kn _ _ st σ => match jpop ts st [] [] with
  | some (vs, cs, s) => if Nat.ble (jwords s) 33 then (jcts σ cs (C vs σ)).bind fun v => jres rc t v σ s kn else none
  | _ => none
def jsIW (ts : List Nat) (C : List Int → jS → Option (jS × Int)) : jStp := fun _ _ kn _ _ st σ => match jpop ts st [] [] with
  | some (a :: vs, cs, s) => if Nat.ble (jwords s) 33 then (jcts σ cs (jck0 a (C (a :: vs) σ))).bind fun q => kn s q.1 else none
  | _ => none
def jsO : jStp := fun _ _ kn _ _ st σ => match st with
  | (ta, a) :: s => if Nat.ble (jwords s) 33 && jrt ta then jck0 a (kn s σ) else none
  | _ => none
theorem jpop_b : ∀ {ts : List Nat} {st : List jT} {acc vs : List Int} {cs cs' : List (Nat × Int)} {s : List jT}, jpop ts st acc cs = some (vs, cs', s) → ∃ ws cs0, vs = ws ++ acc ∧ cs' = cs0 ++ cs ∧ ws.length = ts.length ∧ jgs st = (jgs (jzs ts.reverse ws)).reverse ++ jgs s ∧ (∀ v ∈ s, v ∈ st) ∧ ∀ σ, (∀ v ∈ st, 16 ≤ v.1 → jTt σ v.1 v.2) → (∀ q ∈ cs0, jTt σ q.1 q.2) → ∀ v ∈ jzs ts.reverse ws, 16 ≤ v.1 → jTt σ v.1 v.2
  | [], st, acc, vs, cs, cs', s, h => by cases h; exact ⟨[], [], rfl, rfl, rfl, rfl, fun _ h => h, fun _ _ _ v hv => by cases hv⟩
  | t :: ts, [], acc, vs, cs, cs', s, h => by cases h
  | t :: ts, (a, v) :: st, acc, vs, cs, cs', s, h => by
    have key : ∀ (xs : List Nat) (ys : List Int), ys.length = xs.length → jzs (xs ++ [t]) (ys ++ [v]) = jzs xs ys ++ [(t, v)] := by
      intro xs
      induction xs with
      | nil => intro ys h; cases ys with
        | nil => rfl
        | cons _ _ => cases h
      | cons x xs ih => intro ys h; cases ys with
        | nil => cases h
        | cons y ys => rw [List.cons_append, List.cons_append]; show _ :: _ = _ :: _ ++ _; rw [ih ys (Nat.succ.inj h)]; rfl
    unfold jpop at h; split at h
    · rename_i g
      obtain ⟨ws, cs0, rfl, rfl, h2, h3, h4, h5⟩ := jpop_b h
      have hk := key ts.reverse ws (by simp [h2])
      refine ⟨ws ++ [v], cs0, by simp, rfl, by simp [h2], ?_, fun w hw => List.mem_cons_of_mem _ (h4 w hw), fun σ hs hc w hw => ?_⟩
      · rw [List.reverse_cons, hk, jgs_c, h3, (jtc_b (z := v) g).1]
        simp [jgs]
      · rw [List.reverse_cons, hk] at hw
        rcases List.mem_append.mp hw with hw | hw
        · exact h5 σ (fun v hv => hs v (List.mem_cons_of_mem _ hv)) hc w hw
        · cases List.mem_singleton.mp hw
          intro h16
          exact ((jtc_b (z := v) g).2 true σ (fun g => ⟨rfl, hs _ List.mem_cons_self g⟩) h16).2
    · split at h
      · rename_i g
        rw [Bool.and_eq_true] at g
        have g1 := jbeq g.1; subst g1
        have g2 := Nat.le_of_ble_eq_true g.2
        obtain ⟨ws, cs0, rfl, rfl, h2, h3, h4, h5⟩ := jpop_b h
        have hk := key ts.reverse ws (by simp [h2])
        refine ⟨ws ++ [v], cs0 ++ [(t, v)], by simp, by simp, by simp [h2], ?_, fun w hw => List.mem_cons_of_mem _ (h4 w hw), fun σ hs hc w hw => ?_⟩
        · rw [List.reverse_cons, hk, jgs_c, h3]
          have : jgm (t, v) = jgm (2, v) := by unfold jgm; rw [if_pos g2]; rfl
          simp [jgs, this]
        · rw [List.reverse_cons, hk] at hw
          rcases List.mem_append.mp hw with hw | hw
          · exact h5 σ (fun v hv => hs v (List.mem_cons_of_mem _ hv)) (fun q hq => hc q (List.mem_append_left _ hq)) w hw
          · cases List.mem_singleton.mp hw
            intro _
            exact hc (t, v) (List.mem_append_right _ (List.mem_singleton.mpr rfl))
      · cases h
theorem jck0_b {α β : Type} {a : Int} {x : Option α} {f : α → Option β} {q : β} (h : (jck0 a x).bind f = some q) : 0 ≤ a ∧ x.bind f = some q := by
  unfold jck0 at h; split at h
  · rename_i g; exact ⟨g, h⟩
  · cases h
theorem jwords_g (st : List jT) : jwords (jgs st) = jwords st := by
  unfold jwords jgs
  rw [List.map_map]
  congr 1
  apply List.map_congr_left
  intro v _
  have e : ((jgm v).1 = 1) ↔ v.1 = 1 := by have := jgm_1 v; rw [Bool.eq_iff_iff] at this; simpa using this
  simp only [Function.comp, e]
theorem jpush_g (t : Nat) (v : Int) (ht : t < 16) (s : List jT) : jgs (jpush (t, v) s) = jpush (t, v) (jgs s) := by
  unfold jpush; split
  · rfl
  · rw [jgs_c, jgm_lt (v := (t, v)) ht]
theorem jpush_k {ty : Bool} {σ : jS} {t : Nat} {v : Int} (ht : t < 16) {s : List jT} (h : ∀ w ∈ s, jtk ty σ w) : ∀ w ∈ jpush (t, v) s, jtk ty σ w := by
  unfold jpush; split
  · exact h
  · exact jst_k ht h
section jSteps
variable {G : jG} {l : Launch} {own nm : String} {d : Nat} {wr ty : Bool} {Hs : jHs} {i : Nat}
/-- the field as the machine has it, and what is pushed -/
theorem jsG_a {ci k : Nat} {t tag t' : Nat} {o : Option Int} {a : Int} {σ : jS} (ht : t < 16) (htag : tag = 16 + ci) (hci : ci < 1000) (ho : ∀ z, o = some z → ((k : Int), some z, t') ∈ jStr tag ∧ 16 ≤ t' ∧ t = 2) (h : jTt σ tag a) : 0 ≤ a ∧ jK σ a = ci ∧ (∀ z, o = some z → jF σ a k = a + z ∧ jTt σ t' (a + z)) ∧ jf σ ci a k = jF σ a k := by
  have hz := h.zz
  have hK : jK σ a = ci := by
    rw [hz.2.2.1, htag]; unfold jTk; rw [if_pos (by omega)]; omega
  exact ⟨hz.1, hK, fun z hz => h.fld (ho z hz).1, jf_F hK⟩
theorem jsG_st {ci k : Nat} {ci' k' : Int} {t tag t' : Nat} {o : Option Int} (e1 : ci' = (ci : Int)) (e2 : k' = (k : Int)) (ht : t < 16) (htag : tag = 16 + ci) (hci : ci < 1000) (ho : ∀ z, o = some z → ((k : Int), some z, t') ∈ jStr tag ∧ 16 ≤ t' ∧ t = 2)
    {R : Type} {mk : jS → jT → Option R} {kn : List jT → jS → Option R} {kj : Nat → List jT → jS → Option R} {pc : Nat} {st : List jT} {σ : jS} {x : R} {P : Prop} (hs : ∀ v ∈ st, jtk ty σ v) (h : jsG ci' k' t tag t' o R mk kn kj pc st σ = some x)
    (hP : ∀ ta a s tv, st = (ta, a) :: s → jrt ta = true → 0 ≤ a → jK σ a = ci → jgm (tv, jF σ a k) = (t, jF σ a k) → (∀ v ∈ (tv, jF σ a k) :: s, jtk ty σ v) → kn ((tv, jF σ a k) :: s) σ = some x → P) : P := by
  subst e1 e2
  unfold jsG at h
  split at h
  · rename_i ta a s
    have hs' := jst_c hs
    split at h
    · rename_i g
      obtain ⟨h0, hK, h⟩ := jrd_b h
      exact hP ta a s t rfl (jrt_2 g) h0 hK (jgm_lt ht) (jst_k ht hs'.2) h
    · split at h
      · rename_i g
        have e := jbeq g; subst e
        have h16 : 16 ≤ ta := by omega
        have hT := hs'.1 h16
        obtain ⟨b1, b2, b3, b4⟩ := jsG_a ht htag hci ho hT.2
        have hrt : jrt ta = true := by unfold jrt; rw [show Nat.ble 16 ta = true from Nat.ble_eq_true_of_le h16]; simp
        split at h
        · rename_i z
          obtain ⟨c1, c2⟩ := b3 z rfl
          obtain ⟨-, c4, c5⟩ := ho z rfl
          rw [← c1] at h c2
          refine hP ta a s t' rfl hrt b1 b2 ?_ (List.forall_mem_cons.mpr ⟨fun _ => ⟨hT.1, c2⟩, hs'.2⟩) h
          unfold jgm; rw [if_pos c4, c5]
        · rw [b4] at h
          exact hP ta a s t rfl hrt b1 b2 (jgm_lt ht) (jst_k ht hs'.2) h
      · cases h
  · cases h
theorem jsG_2 {ci k : Nat} {ci' k' : Int} {t tag t' : Nat} {o : Option Int} (e1 : ci' = (ci : Int)) (e2 : k' = (k : Int)) (ht : t < 16) (htag : tag = 16 + ci) (hci : ci < 1000) (ho : ∀ z, o = some z → ((k : Int), some z, t') ∈ jStr tag ∧ 16 ≤ t' ∧ t = 2) : jSt2 wr ty (jsG ci' k' t tag t' o) := by
  intro hty R mk kn kj pc st σ x P hs h hkn hmk hkj
  exact jsG_st (mk := mk) (kn := kn) (kj := kj) (pc := pc) e1 e2 ht htag hci ho hs h fun ta a s tv _ _ _ _ _ hk h => hkn _ _ jEx.rfl (fun _ => rfl) hk h
theorem jsG_ok {ci k : Nat} {ci' k' : Int} {t tag t' : Nat} {o : Option Int} (hf : jfl own i ci k t) (e1 : ci' = (ci : Int)) (e2 : k' = (k : Int)) (ht : t < 16) (htag : tag = 16 + ci) (ho : ∀ z, o = some z → ((k : Int), some z, t') ∈ jStr tag ∧ 16 ≤ t' ∧ t = 2) : jKOk G l own d nm wr ty Hs (16 * i, jsG ci' k' t tag t' o) := by
  have hci : ci < 1000 := by obtain ⟨_, _, _, _, _, _, h, _⟩ := hf; exact h
  refine ⟨?_, jsG_2 e1 e2 ht htag hci ho⟩
  intro I n hI X cc nL ret pc lr st σ σ' r R mk kn kj x C hH hXl hd hs h hkn hmk hkj
  obtain ⟨rfl, rfl⟩ := jk_getfield hI
  refine jsG_st (mk := mk) (kn := kn) (kj := kj) (pc := pc) e1 e2 ht htag hci ho hs h fun ta a s tv est hr h0 hK hg hk hh => ?_
  subst est
  have k1 := hkn _ _ (fun _ => rfl) (fun _ => jEx.rfl) hk hh
  rw [jgs_c, hg] at k1
  rw [jgs_c, jgm_rt hr]
  exact js_get C hf hd h0 hK k1
/-- writes -/
theorem jsP_st {ci k : Nat} {ci' k' : Int} {t tag : Nat} (e1 : ci' = (ci : Int)) (e2 : k' = (k : Int)) (ht : t < 16) (htag : tag = 16 + ci) (hci : ci < 1000) {R : Type} {mk : jS → jT → Option R} {kn : List jT → jS → Option R} {kj : Nat → List jT → jS → Option R} {pc : Nat} {st : List jT} {σ : jS} {x : R} {P : Prop} (hs : ∀ v ∈ st, jtk ty σ v) (h : jsP ci' k' t tag R mk kn kj pc st σ = some x)
    (hP : ∀ tv v ta a s, st = (tv, v) :: (ta, a) :: s → jgm (tv, v) = (t, v) → jrt ta = true → 0 ≤ a → jK σ a = ci → kn s (jput σ a k v) = some x → P) : P := by
  subst e1 e2
  unfold jsP at h
  split at h
  · rename_i tv v ta a s
    have hs' := jst_c (jst_c hs).2
    split at h
    · rename_i g0
      have hg : jgm (tv, v) = (t, v) := by rw [(jtc_b (z := v) g0).1]; exact jgm_lt ht
      split at h
      · rename_i g
        obtain ⟨h0, hK, h⟩ := jwr_b h
        exact hP tv v ta a s rfl hg (jrt_2 g) h0 hK h
      · split at h
        · rename_i g
          have e := jbeq g; subst e
          have h16 : 16 ≤ ta := by omega
          have hz := (hs'.1 h16).2.zz
          have hK : jK σ a = ci := by rw [hz.2.2.1]; show jTk ta = _; rw [htag]; unfold jTk; rw [if_pos (by omega)]; omega
          unfold jls at h
          rw [jp_put hK] at h
          exact hP tv v ta a s rfl hg (by unfold jrt; rw [show Nat.ble 16 ta = true from Nat.ble_eq_true_of_le h16]; simp) hz.1 hK h
        · cases h
    · cases h
  · cases h
theorem jsPz_st {ci k : Nat} {ci' k' : Int} {tag : Nat} (e1 : ci' = (ci : Int)) (e2 : k' = (k : Int)) (htag : tag = 16 + ci) (hci : ci < 1000) {R : Type} {mk : jS → jT → Option R} {kn : List jT → jS → Option R} {kj : Nat → List jT → jS → Option R} {pc : Nat} {st : List jT} {σ : jS} {x : R} {P : Prop} (hs : ∀ v ∈ st, jtk ty σ v) (h : jsPz ci' k' tag R mk kn kj pc st σ = some x)
    (hP : ∀ v ta a s, st = (0, v) :: (ta, a) :: s → (v = 0 ∨ v = 1) → jrt ta = true → 0 ≤ a → jK σ a = ci → kn s (jput σ a k v) = some x → P) : P := by
  subst e1 e2
  unfold jsPz at h
  split at h
  · rename_i v ta a s
    have hs' := jst_c (jst_c hs).2
    obtain ⟨hv, h'⟩ := jzb_b h
    clear h
    split at h'
    · rename_i g
      obtain ⟨h0, hK, h'⟩ := jwr_b h'
      exact hP v ta a s rfl hv (jrt_2 g) h0 hK h'
    · split at h'
      · rename_i g
        have e := jbeq g; subst e
        have h16 : 16 ≤ ta := by omega
        have hz := (hs'.1 h16).2.zz
        have hK : jK σ a = ci := by rw [hz.2.2.1]; show jTk ta = _; rw [htag]; unfold jTk; rw [if_pos (by omega)]; omega
        unfold jls at h'
        rw [jp_put hK] at h'
        exact hP v ta a s rfl hv (by unfold jrt; rw [show Nat.ble 16 ta = true from Nat.ble_eq_true_of_le h16]; simp) hz.1 hK h'
      · cases h'
  · cases h
theorem jsP_2 {ci k : Nat} {ci' k' : Int} {t tag : Nat} (e1 : ci' = (ci : Int)) (e2 : k' = (k : Int)) (ht : t < 16) (htag : tag = 16 + ci) (hci : ci < 1000) (hS : ty = true → jSs ci k = false) : jSt2 true ty (jsP ci' k' t tag) := by
  intro hty R mk kn kj pc st σ x P hs h hkn hmk hkj
  refine jsP_st (mk := mk) (kn := kn) (kj := kj) (pc := pc) e1 e2 ht htag hci hs h fun tv v ta a s est _ _ _ hK hh => ?_
  have he : jEx σ (jput σ a k v) := jEx_put (by rw [hK]; exact hS hty)
  subst est
  exact hkn _ _ he (fun e => nomatch e) (jst_e (jst_c (jst_c hs).2).2 fun _ => he) hh
theorem jsPz_2 {ci k : Nat} {ci' k' : Int} {tag : Nat} (e1 : ci' = (ci : Int)) (e2 : k' = (k : Int)) (htag : tag = 16 + ci) (hci : ci < 1000) (hS : ty = true → jSs ci k = false) : jSt2 true ty (jsPz ci' k' tag) := by
  intro hty R mk kn kj pc st σ x P hs h hkn hmk hkj
  refine jsPz_st (mk := mk) (kn := kn) (kj := kj) (pc := pc) e1 e2 htag hci hs h fun v ta a s est _ _ _ hK hh => ?_
  have he : jEx σ (jput σ a k v) := jEx_put (by rw [hK]; exact hS hty)
  subst est
  exact hkn _ _ he (fun e => nomatch e) (jst_e (jst_c (jst_c hs).2).2 fun _ => he) hh
theorem jsP_ok {ci k : Nat} {ci' k' : Int} {t tag : Nat} (hf : jfw own i ci k t) (hfit : ∀ v, jfit (jTy ci k) v) (e1 : ci' = (ci : Int)) (e2 : k' = (k : Int)) (ht : t < 16) (htag : tag = 16 + ci) (hS : ty = true → jSs ci k = false) : jKOk G l own d nm true ty Hs (16 * i + 1, jsP ci' k' t tag) := by
  have hci : ci < 1000 := by obtain ⟨_, _, _, _, _, _, h, _⟩ := hf; exact h
  refine ⟨?_, jsP_2 e1 e2 ht htag hci hS⟩
  intro I n hI X cc nL ret pc lr st σ σ' r R mk kn kj x C hH hXl hd hs h hkn hmk hkj
  obtain ⟨rfl, rfl⟩ := jk_putfield hI
  refine jsP_st (mk := mk) (kn := kn) (kj := kj) (pc := pc) e1 e2 ht htag hci hs h fun tv v ta a s est hg hr h0 hK hh => ?_
  subst est
  have he : ty = true → jEx σ (jput σ a k v) := fun e => jEx_put (by rw [hK]; exact hS e)
  have k1 := hkn _ _ (fun e => nomatch e) he (jst_e (jst_c (jst_c hs).2).2 he) hh
  rw [jgs_c, jgs_c, jgm_rt hr, hg]
  exact js_put C hf hd h0 hK (hfit _) k1
theorem jsPF_ok {ci k : Nat} {ci' k' : Int} {t tag : Nat} (hf : jff own i ci k t) (hfit : ∀ v, jfit (jTy ci k) v) (e1 : ci' = (ci : Int)) (e2 : k' = (k : Int)) (ht : t < 16) (htag : tag = 16 + ci) (hS : ty = true → jSs ci k = false) : jKOk G l own d "<init>" true ty Hs (16 * i + 1, jsP ci' k' t tag) := by
  have hci : ci < 1000 := by obtain ⟨_, _, _, _, _, _, h, _⟩ := hf; exact h
  refine ⟨?_, jsP_2 e1 e2 ht htag hci hS⟩
  intro I n hI X cc nL ret pc lr st σ σ' r R mk kn kj x C hH hXl hd hs h hkn hmk hkj
  obtain ⟨rfl, rfl⟩ := jk_putfield hI
  refine jsP_st (mk := mk) (kn := kn) (kj := kj) (pc := pc) e1 e2 ht htag hci hs h fun tv v ta a s est hg hr h0 hK hh => ?_
  subst est
  have he : ty = true → jEx σ (jput σ a k v) := fun e => jEx_put (by rw [hK]; exact hS e)
  have k1 := hkn _ _ (fun e => nomatch e) he (jst_e (jst_c (jst_c hs).2).2 he) hh
  rw [jgs_c, jgs_c, jgm_rt hr, hg]
  exact js_putF C hf hd h0 hK (hfit _) k1
theorem jsPz_ok {ci k : Nat} {ci' k' : Int} {tag : Nat} (hf : jfw own i ci k 0) (hfit : jTy ci k = .boolean) (e1 : ci' = (ci : Int)) (e2 : k' = (k : Int)) (htag : tag = 16 + ci) (hS : ty = true → jSs ci k = false) : jKOk G l own d nm true ty Hs (16 * i + 1, jsPz ci' k' tag) := by
  have hci : ci < 1000 := by obtain ⟨_, _, _, _, _, _, h, _⟩ := hf; exact h
  refine ⟨?_, jsPz_2 e1 e2 htag hci hS⟩
  intro I n hI X cc nL ret pc lr st σ σ' r R mk kn kj x C hH hXl hd hs h hkn hmk hkj
  obtain ⟨rfl, rfl⟩ := jk_putfield hI
  refine jsPz_st (mk := mk) (kn := kn) (kj := kj) (pc := pc) e1 e2 htag hci hs h fun v ta a s est hv hr h0 hK hh => ?_
  subst est
  have he : ty = true → jEx σ (jput σ a k v) := fun e => jEx_put (by rw [hK]; exact hS e)
  have k1 := hkn _ _ (fun e => nomatch e) he (jst_e (jst_c (jst_c hs).2).2 he) hh
  rw [jgs_c, jgs_c, jgm_rt hr]
  exact js_put C hf hd h0 hK (by rw [hfit]; exact jfit_bool hv) k1
theorem jsPzF_ok {ci k : Nat} {ci' k' : Int} {tag : Nat} (hf : jff own i ci k 0) (hfit : jTy ci k = .boolean) (e1 : ci' = (ci : Int)) (e2 : k' = (k : Int)) (htag : tag = 16 + ci) (hS : ty = true → jSs ci k = false) : jKOk G l own d "<init>" true ty Hs (16 * i + 1, jsPz ci' k' tag) := by
  have hci : ci < 1000 := by obtain ⟨_, _, _, _, _, _, h, _⟩ := hf; exact h
  refine ⟨?_, jsPz_2 e1 e2 htag hci hS⟩
  intro I n hI X cc nL ret pc lr st σ σ' r R mk kn kj x C hH hXl hd hs h hkn hmk hkj
  obtain ⟨rfl, rfl⟩ := jk_putfield hI
  refine jsPz_st (mk := mk) (kn := kn) (kj := kj) (pc := pc) e1 e2 htag hci hs h fun v ta a s est hv hr h0 hK hh => ?_
  subst est
  have he : ty = true → jEx σ (jput σ a k v) := fun e => jEx_put (by rw [hK]; exact hS e)
  have k1 := hkn _ _ (fun e => nomatch e) he (jst_e (jst_c (jst_c hs).2).2 he) hh
  rw [jgs_c, jgs_c, jgm_rt hr]
  exact js_putF C hf hd h0 hK (by rw [hfit]; exact jfit_bool hv) k1
/-- a field of a nest mate by its place -/
def jflN (own : String) (index ci k t : Nat) : Prop := ∃ (rr : vw_C) (ref host : String), jCl[ci]? = some rr ∧ k < rr.2.2 ∧ Cond.fieldLinkNest own index ref (rr.2.1 k).2.1 (rr.2.1 k).2.2.1 host ∈ lw_tbl ∧ (rr.2.1 k).1 = ref ∧ ci < 1000 ∧ jtag (jTy ci k) = t
def jfwN (own : String) (index ci k t : Nat) : Prop := ∃ (rr : vw_C) (ref host : String), jCl[ci]? = some rr ∧ k < rr.2.2 ∧ Cond.fieldLinkNest own index ref (rr.2.1 k).2.1 (rr.2.1 k).2.2.1 host ∈ lw_tbl ∧ (rr.2.1 k).1 = ref ∧ ci < 1000 ∧ jtag (jTy ci k) = t ∧ (rr.2.1 k).2.2.2 = false
theorem jsGN_ok {ci k : Nat} {ci' k' : Int} {t tag t' : Nat} {o : Option Int} (hf : jflN own i ci k t) (e1 : ci' = (ci : Int)) (e2 : k' = (k : Int)) (ht : t < 16) (htag : tag = 16 + ci) (ho : ∀ z, o = some z → ((k : Int), some z, t') ∈ jStr tag ∧ 16 ≤ t' ∧ t = 2) : jKOk G l own d nm wr ty Hs (16 * i, jsG ci' k' t tag t' o) := by
  obtain ⟨rr, ref, host, f1, f2, f3, f4, hci, f6⟩ := hf
  refine ⟨?_, jsG_2 e1 e2 ht htag hci ho⟩
  intro I n hI X cc nL ret pc lr st σ σ' r R mk kn kj x C hH hXl hd hs h hkn hmk hkj
  obtain ⟨rfl, rfl⟩ := jk_getfield hI
  refine jsG_st (mk := mk) (kn := kn) (kj := kj) (pc := pc) e1 e2 ht htag hci ho hs h fun ta a s tv est hr h0 hK hg hk hh => ?_
  subst est
  have k1 := hkn _ _ (fun _ => rfl) (fun _ => jEx.rfl) hk hh
  rw [jgs_c, hg] at k1
  rw [jgs_c, jgm_rt hr]
  exact jr_getfN C ci k f1 f2 f3 f4 hd h0 hK hci f6 k1
theorem jsPN_ok {ci k : Nat} {ci' k' : Int} {t tag : Nat} (hf : jfwN own i ci k t) (hfit : ∀ v, jfit (jTy ci k) v) (e1 : ci' = (ci : Int)) (e2 : k' = (k : Int)) (ht : t < 16) (htag : tag = 16 + ci) (hS : ty = true → jSs ci k = false) : jKOk G l own d nm true ty Hs (16 * i + 1, jsP ci' k' t tag) := by
  have hci : ci < 1000 := by obtain ⟨_, _, _, _, _, _, _, h, _⟩ := hf; exact h
  refine ⟨?_, jsP_2 e1 e2 ht htag hci hS⟩
  intro I n hI X cc nL ret pc lr st σ σ' r R mk kn kj x C hH hXl hd hs h hkn hmk hkj
  obtain ⟨rfl, rfl⟩ := jk_putfield hI
  refine jsP_st (mk := mk) (kn := kn) (kj := kj) (pc := pc) e1 e2 ht htag hci hs h fun tv v ta a s est hg hr h0 hK hh => ?_
  subst est
  have he : ty = true → jEx σ (jput σ a k v) := fun e => jEx_put (by rw [hK]; exact hS e)
  have k1 := hkn _ _ (fun e => nomatch e) he (jst_e (jst_c (jst_c hs).2).2 he) hh
  rw [jgs_c, jgs_c, jgm_rt hr, hg]
  obtain ⟨rr, ref, host, f1, f2, f3, f4, f5, f6, f7⟩ := hf
  exact jr_putfN C ci k f1 f2 f3 f4 f7 hd h0 hK f5 (hfit _) f6 k1
theorem jsPzN_ok {ci k : Nat} {ci' k' : Int} {tag : Nat} (hf : jfwN own i ci k 0) (hfit : jTy ci k = .boolean) (e1 : ci' = (ci : Int)) (e2 : k' = (k : Int)) (htag : tag = 16 + ci) (hS : ty = true → jSs ci k = false) : jKOk G l own d nm true ty Hs (16 * i + 1, jsPz ci' k' tag) := by
  have hci : ci < 1000 := by obtain ⟨_, _, _, _, _, _, _, h, _⟩ := hf; exact h
  refine ⟨?_, jsPz_2 e1 e2 htag hci hS⟩
  intro I n hI X cc nL ret pc lr st σ σ' r R mk kn kj x C hH hXl hd hs h hkn hmk hkj
  obtain ⟨rfl, rfl⟩ := jk_putfield hI
  refine jsPz_st (mk := mk) (kn := kn) (kj := kj) (pc := pc) e1 e2 htag hci hs h fun v ta a s est hv hr h0 hK hh => ?_
  subst est
  have he : ty = true → jEx σ (jput σ a k v) := fun e => jEx_put (by rw [hK]; exact hS e)
  have k1 := hkn _ _ (fun e => nomatch e) he (jst_e (jst_c (jst_c hs).2).2 he) hh
  rw [jgs_c, jgs_c, jgm_rt hr]
  obtain ⟨rr, ref, host, f1, f2, f3, f4, f5, f6, f7⟩ := hf
  exact jr_putfN C ci k f1 f2 f3 f4 f7 hd h0 hK f5 (by rw [hfit]; exact jfit_bool hv) f6 k1
theorem jsK_2 {t : Nat} {z : Int} (ht : t < 16) : jSt2 wr ty (jsK t z) := by
  intro hty R mk kn kj pc st σ x P hs h hkn hmk hkj
  exact hkn _ _ jEx.rfl (fun _ => rfl) (jst_k ht hs) h
theorem jsLdc_ok {v : Int32} {z : Int} (hw : Cond.constant own i v ∈ lw_all) (hz : v.toInt = z) : jKOk G l own d nm wr ty Hs (16 * i + 7, jsK 0 z) := by
  refine ⟨?_, jsK_2 (by decide)⟩
  intro I n hI X cc nL ret pc lr st σ σ' r R mk kn kj x C hH hXl hd hs h hkn hmk hkj
  obtain ⟨rfl, rfl⟩ := jk_ldc hI
  exact jr_ldc C hw hd hz (hkn _ _ (fun _ => rfl) (fun _ => jEx.rfl) (jst_k (by simp) hs) h)
theorem jsLdcW_ok {v : Int32} {z : Int} (hw : Cond.constant own i v ∈ lw_all) (hz : v.toInt = z) : jKOk G l own d nm wr ty Hs (16 * i + 8, jsK 0 z) := by
  refine ⟨?_, jsK_2 (by decide)⟩
  intro I n hI X cc nL ret pc lr st σ σ' r R mk kn kj x C hH hXl hd hs h hkn hmk hkj
  obtain ⟨rfl, rfl⟩ := jk_ldc_w hI
  exact jr_ldc_w C hw hd hz (hkn _ _ (fun _ => rfl) (fun _ => jEx.rfl) (jst_k (by simp) hs) h)
theorem jsLdc2_ok {v : Int64} {z : Int} (hw : Cond.constantLong own i v ∈ lw_all) (hz : v.toInt = z) : jKOk G l own d nm wr ty Hs (16 * i + 9, jsK 1 z) := by
  refine ⟨?_, jsK_2 (by decide)⟩
  intro I n hI X cc nL ret pc lr st σ σ' r R mk kn kj x C hH hXl hd hs h hkn hmk hkj
  obtain ⟨rfl, rfl⟩ := jk_ldc2_w hI
  exact jr_ldc2 C hw hd hz (hkn _ _ (fun _ => rfl) (fun _ => jEx.rfl) (jst_k (by simp) hs) h)
theorem jTt_new {σ : jS} {ci : Nat} {nf : Int} {f : Int → Int} (h0 : 0 ≤ jn σ) (hci : ci < 1000) (hS : jStr (16 + ci) = []) : jTt (jmk σ ci 0 f nf) (16 + ci) (jn σ) := by
  refine jTt_iff.mpr ⟨⟨h0, by show jn σ < jn σ + 1; omega, ?_, fun h => by omega⟩, fun e he => (by rw [hS] at he; cases he), fun q hq => ?_⟩
  · show (if jn σ = jn σ then (ci : Int) else _) = jTk (16 + ci)
    rw [if_pos rfl]; unfold jTk; rw [if_pos (by omega)]; omega
  · unfold jStA at hq
    repeat' split at hq
    all_goals first | (cases hq; done) | omega
theorem jsNew_st {ci : Nat} {ci' nf : Int} {tag : Nat} (e1 : ci' = (ci : Int)) (htag : tag = 2 ∨ (ty = true ∧ tag = 16 + ci ∧ ci < 1000 ∧ jStr (16 + ci) = [])) {σ : jS} {s : List jT} (h0 : 0 ≤ jn σ) (hs : ∀ v ∈ s, jtk ty σ v) : jgm (tag, jn σ) = (2, jn σ) ∧ ∀ v ∈ (tag, jn σ) :: s, jtk ty (jmk σ ci' 0 (jdf ci') nf) v := by
  have hs' := jst_e (σ1 := jmk σ ci' 0 (jdf ci') nf) hs fun _ => jEx_mk
  rcases htag with rfl | ⟨a1, rfl, a2, a3⟩
  · exact ⟨rfl, jst_k (by show 2 < 16; decide) hs'⟩
  · exact ⟨by unfold jgm; rw [if_pos (by show 16 ≤ 16 + ci; omega)], List.forall_mem_cons.mpr ⟨fun _ => ⟨a1, by subst e1; exact jTt_new h0 a2 a3⟩, hs'⟩⟩
theorem jsNew_ok {ci : Nat} {ci' nf : Int} {tag : Nat} {rr : vw_C} (hcl : jCl[ci]? = some rr) (hci : ci < 1000) (hfl : ∀ k, k < rr.2.2 → jTy ci k ≠ .float ∧ jTy ci k ≠ .double) (w1 : Cond.classLink own i rr.1 ∈ lw_all) (w2 : Cond.instantiable rr.1 rr.2.2 ∈ lw_all) (w3 : Cond.initialized rr.1 ∈ lw_all) (e1 : ci' = (ci : Int)) (e2 : nf = (rr.2.2 : Int)) (htag : tag = 2 ∨ (ty = true ∧ tag = 16 + ci ∧ jStr (16 + ci) = [])) : jKOk G l own d nm true ty Hs (16 * i + 5, jsNew ci' nf tag) := by
  have htag : tag = 2 ∨ (ty = true ∧ tag = 16 + ci ∧ ci < 1000 ∧ jStr (16 + ci) = []) := htag.imp id fun h => ⟨h.1, h.2.1, hci, h.2.2⟩
  refine ⟨?_, ?_⟩
  · intro I n hI X cc nL ret pc lr st σ σ' r R mk kn kj x C hH hXl hd hs h hkn hmk hkj
    obtain ⟨rfl, rfl⟩ := jk_new hI
    obtain ⟨h0, h1, h2, h⟩ := jnw_b h
    obtain ⟨g1, g2⟩ := jsNew_st (ty := ty) (nf := nf) e1 htag h0 hs
    have k1 := hkn _ _ (fun e => nomatch e) (fun _ => jEx_mk) g2 h
    rw [jgs_c, g1] at k1
    subst e1 e2
    exact jr_new C ci hcl hci hfl w1 w2 w3 hd h1 h2 k1
  · intro hty R mk kn kj pc st σ x P hs h hkn hmk hkj
    obtain ⟨h0, h1, h2, h⟩ := jnw_b h
    exact hkn _ _ jEx_mk (fun e => nomatch e) (jsNew_st (ty := ty) (nf := nf) e1 htag h0 hs).2 h
theorem jsNA_2 {t' v : Int} : jSt2 true ty (jsNA t' v) := by
  intro hty R mk kn kj pc st σ x P hs h hkn hmk hkj
  dsimp only [jsNA] at h
  split at h
  · obtain ⟨h1, h2, h3, h4, h⟩ := jna_b h
    exact hkn _ _ jEx_mk (fun e => nomatch e) (jst_k (by simp) (jst_e (jst_c hs).2 fun _ => jEx_mk)) h
  · cases h
theorem jsNA_ok {t : Nat} {t' : Int} {ty0 : FieldType} (ht : t < 6) (hty : jEt t = some ty0) (hA : ∀ a, jat a = t → newarray.typeOf a = ty0) (htag : jtag ty0 ≠ 2) (hdef : ty0 ≠ .float ∧ ty0 ≠ .double) (hcomp : componentBytes ty0 ≤ 8) (w1 : Cond.arrayClass ty0 ∈ lw_all) (e1 : t' = 1000 + (t : Int)) : jKOk G l own d nm true ty Hs (16 * t + 15, jsNA t' 0) := by
  refine ⟨?_, jsNA_2⟩
  subst e1
  intro I n hI X cc nL ret pc lr st σ σ' r R mk kn kj x C hH hXl hd hs h hkn hmk hkj
  obtain ⟨⟨a, rfl, ha⟩, rfl⟩ := jk_newarray (by omega) hI
  have e := hA a ha
  subst e
  dsimp only [jsNA] at h
  split at h
  · obtain ⟨h1, h2, h3, h4, h⟩ := jna_b h
    exact jr_newa C t ht hty htag hdef hcomp w1 hd h1 h2 h3 h4 (hkn _ _ (fun e => nomatch e) (fun _ => jEx_mk) (jst_k (by simp) (jst_e (jst_c hs).2 fun _ => jEx_mk)) h)
  · cases h
theorem jsAN_ok {t : Nat} {t' : Int} {E : String} (ht : t < 1000) (hty : jEt t = some (.object E)) (w1 : Cond.classLink own i E ∈ lw_all) (w2 : Cond.arrayOver (.object E) ∈ lw_tbl) (e1 : t' = 1000 + (t : Int)) : jKOk G l own d nm true ty Hs (16 * i + 6, jsNA t' (-1)) := by
  refine ⟨?_, jsNA_2⟩
  subst e1
  intro I n hI X cc nL ret pc lr st σ σ' r R mk kn kj x C hH hXl hd hs h hkn hmk hkj
  obtain ⟨rfl, rfl⟩ := jk_anewarray hI
  dsimp only [jsNA] at h
  split at h
  · obtain ⟨h1, h2, h3, h4, h⟩ := jna_b h
    exact jr_anew C t ht hty w1 w2 hd h1 h2 h3 h4 (hkn _ _ (fun e => nomatch e) (fun _ => jEx_mk) (jst_k (by simp) (jst_e (jst_c hs).2 fun _ => jEx_mk)) h)
  · cases h
variable {d' maxL n0 : Nat} {y : MethodName} {bytes : ByteArray} {rt : Option FieldType} {ts ra : List Nat} {t tt rc : Nat} {ty' : Bool}
theorem jzs_len : ∀ {ts : List Nat} {ws : List Int}, ws.length = ts.length → (jzs ts ws).length = ts.length
  | [], ws, _ => by cases ws <;> rfl
  | _ :: _, [], h => by cases h
  | _ :: ts, _ :: ws, h => by
    show _ + 1 = _ + 1
    rw [jzs_len (Nat.succ.inj h)]
/-- the arguments are what their tags say -/
theorem jpop_k {st s : List jT} {ws : List Int} {σ : jS} (hty' : ty' = true ∨ ∀ t ∈ ts, t < 16) (hs : ∀ v ∈ st, jtk ty σ v) (h : ∀ v ∈ jzs ts.reverse ws, 16 ≤ v.1 → jTt σ v.1 v.2) : ∀ v ∈ jzs ts.reverse ws, jtk ty' σ v := by
  intro v hv g
  refine ⟨?_, h v hv g⟩
  rcases hty' with e | e
  · exact e
  · exfalso
    have : ∀ (xs : List Nat) (ys : List Int), v ∈ jzs xs ys → v.1 ∈ xs := by
      intro xs
      induction xs with
      | nil => intro ys h; cases ys <;> cases h
      | cons x xs ih => intro ys h; cases ys with
        | nil => cases h
        | cons y ys => rcases List.mem_cons.mp h with rfl | h; exact List.mem_cons_self; exact List.mem_cons_of_mem _ (ih ys h)
    have := e _ (List.mem_reverse.mp (this _ _ hv))
    omega
theorem jres_st {v : Int} {σ1 : jS} {s : List jT} {R : Type} {kn : List jT → jS → Option R} {x : R} {P : Prop} (ht : t < 16) (hrc : rc = 0 ∨ (16 ≤ rc ∧ t = 2 ∧ ty = true)) (hs : ∀ v ∈ s, jtk ty σ1 v) (h : jres rc t v σ1 s kn = some x)
    (hP : ∀ st1, jgs st1 = jpush (t, v) (jgs s) → (∀ v ∈ st1, jtk ty σ1 v) → kn st1 σ1 = some x → P) : P := by
  unfold jres at h
  split at h
  · exact hP _ (jpush_g t v ht s) (jpush_k ht hs) h
  · rename_i g
    obtain ⟨h1, h2⟩ := jct_b h
    rcases hrc with rfl | ⟨a, b, c⟩
    · exact absurd rfl g
    · refine hP _ ?_ (List.forall_mem_cons.mpr ⟨fun _ => ⟨c, h1⟩, hs⟩) h2
      rw [jgs_c]; unfold jgm jpush
      subst b
      rw [if_pos a, if_neg (by simp)]
theorem jsCW_st {Cf : List Int → jS → Option (jS × Int)} (hty' : ty' = true ∨ ∀ t ∈ ts, t < 16) (htt : ty = true → ty' = true) (hX : jXt ty' ts.reverse Cf) (ht : t < 16) (hrc : rc = 0 ∨ (16 ≤ rc ∧ t = 2 ∧ ty = true)) {R : Type} {mk : jS → jT → Option R} {kn : List jT → jS → Option R} {kj : Nat → List jT → jS → Option R} {pc : Nat} {st : List jT} {σ : jS} {x : R} {P : Prop} (hs : ∀ v ∈ st, jtk ty σ v) (h : jsCW ts t rc Cf R mk kn kj pc st σ = some x)
    (hP : ∀ ws s st1 σ1 z, ws.length = ts.length → jgs st = (jgs (jzs ts.reverse ws)).reverse ++ jgs s → jwords s ≤ 33 → (∀ v ∈ jzs ts.reverse ws, jtk ty' σ v) → Cf ws σ = some (σ1, z) → (ty = true → jEx σ σ1) → jgs st1 = jpush (t, z) (jgs s) → (∀ v ∈ st1, jtk ty σ1 v) → kn st1 σ1 = some x → P) : P := by
  dsimp only [jsCW] at h
  split at h
  · rename_i vs cs s e
    split at h
    · rename_i g
      have hwd := Nat.le_of_ble_eq_true g
      obtain ⟨ws, cs0, rfl, rfl, hlen, hst, hsub, hT⟩ := jpop_b e
      rw [List.append_nil, List.append_nil] at h
      obtain ⟨q, hq, h⟩ := jb_b h
      obtain ⟨hc, hq⟩ := jcts_b hq
      obtain ⟨σ1, z⟩ := q
      have hk := jpop_k (ty := ty) (s := s) hty' hs (hT σ (fun v hv g => (hs v hv g).2) hc)
      have hex : ty = true → jEx σ σ1 := fun e => hX (htt e) ws σ (σ1, z) (by simp [hlen]) hk hq
      refine jres_st ht hrc (jst_e (fun v hv => hs v (hsub v hv)) hex) h fun st1 a b c => ?_
      exact hP ws s st1 σ1 z hlen hst hwd hk hq hex a b c
    · cases h
  · cases h
theorem jsCR_st {Cf : List Int → jS → Option Int} (hty' : ty' = true ∨ ∀ t ∈ ts, t < 16) (ht : t < 16) (hrc : rc = 0 ∨ (16 ≤ rc ∧ t = 2 ∧ ty = true)) {R : Type} {mk : jS → jT → Option R} {kn : List jT → jS → Option R} {kj : Nat → List jT → jS → Option R} {pc : Nat} {st : List jT} {σ : jS} {x : R} {P : Prop} (hs : ∀ v ∈ st, jtk ty σ v) (h : jsCR ts t rc Cf R mk kn kj pc st σ = some x)
    (hP : ∀ ws s st1 z, ws.length = ts.length → jgs st = (jgs (jzs ts.reverse ws)).reverse ++ jgs s → jwords s ≤ 33 → (∀ v ∈ jzs ts.reverse ws, jtk ty' σ v) → Cf ws σ = some z → jgs st1 = jpush (t, z) (jgs s) → (∀ v ∈ st1, jtk ty σ v) → kn st1 σ = some x → P) : P := by
  dsimp only [jsCR] at h
  split at h
  · rename_i vs cs s e
    split at h
    · rename_i g
      have hwd := Nat.le_of_ble_eq_true g
      obtain ⟨ws, cs0, rfl, rfl, hlen, hst, hsub, hT⟩ := jpop_b e
      rw [List.append_nil, List.append_nil] at h
      obtain ⟨q, hq, h⟩ := jb_b h
      obtain ⟨hc, hq⟩ := jcts_b hq
      have hk := jpop_k (ty := ty) (s := s) hty' hs (hT σ (fun v hv g => (hs v hv g).2) hc)
      refine jres_st ht hrc (fun v hv => hs v (hsub v hv)) h fun st1 a b c => ?_
      exact hP ws s st1 q hlen hst hwd hk hq a b c
    · cases h
  · cases h
theorem jrev_this {ws : List Int} {s : List jT} (h16 : 16 ≤ tt) (hlen : ws.length = (ra ++ [tt]).length) : ∃ a ws', ws = a :: ws' ∧ ws'.length = ra.length ∧ jgs (jzs (ra ++ [tt]).reverse ws) = (2, a) :: jgs (jzs ra.reverse ws') ∧ (jgs (jzs (ra ++ [tt]).reverse ws)).reverse ++ s = (jgs (jzs ra.reverse ws')).reverse ++ (2, a) :: s ∧ (tt, a) ∈ jzs (ra ++ [tt]).reverse ws := by
  cases ws with
  | nil => simp at hlen
  | cons a ws' =>
    have e : (ra ++ [tt]).reverse = tt :: ra.reverse := by simp
    have e2 : jgs (jzs (ra ++ [tt]).reverse (a :: ws')) = (2, a) :: jgs (jzs ra.reverse ws') := by
      rw [e]
      show jgs ((tt, a) :: _) = _
      rw [jgs_c]; unfold jgm; rw [if_pos h16]
    refine ⟨a, ws', rfl, by simpa using hlen, e2, ?_, ?_⟩
    · rw [e2]; simp
    · rw [e]; exact List.mem_cons_self
theorem jCW_2 {Cf : List Int → jS → Option (jS × Int)} (hty' : ty' = true ∨ ∀ t ∈ ts, t < 16) (htt : ty = true → ty' = true) (hX : jXt ty' ts.reverse Cf) (ht : t < 16) (hrc : rc = 0 ∨ (16 ≤ rc ∧ t = 2 ∧ ty = true)) : jSt2 true ty (jsCW ts t rc Cf) := by
  intro hty R mk kn kj pc st σ x P hs h hkn hmk hkj
  exact jsCW_st (mk := mk) (kn := kn) (kj := kj) (pc := pc) hty' htt hX ht hrc hs h fun ws s st1 σ1 z _ _ _ _ _ he _ hk h => hkn _ _ (he hty) (fun e => nomatch e) hk h
theorem jCR_2 {Cf : List Int → jS → Option Int} (hty' : ty' = true ∨ ∀ t ∈ ts, t < 16) (ht : t < 16) (hrc : rc = 0 ∨ (16 ≤ rc ∧ t = 2 ∧ ty = true)) : jSt2 wr ty (jsCR ts t rc Cf) := by
  intro hty R mk kn kj pc st σ x P hs h hkn hmk hkj
  exact jsCR_st (mk := mk) (kn := kn) (kj := kj) (pc := pc) hty' ht hrc hs h fun ws s st1 z _ _ _ _ _ _ hk h => hkn _ _ jEx.rfl (fun _ => rfl) hk h
theorem jsVW_ok {ci : Nat} {Cf : List Int → jS → Option (jS × Int)} (hc : jcv own i ci y bytes maxL rt ra.length) (hM : jM G l d' y (ws_ y bytes maxL rt) (jFW true ((ra ++ [16 + ci]).reverse) t Cf) ∧ jXt true ((ra ++ [16 + ci]).reverse) Cf) (hd' : d' + 1 ≤ d) (ht9 : ¬ t = 9) (ht : t < 16) (hrc : rc = 0 ∨ (16 ≤ rc ∧ t = 2 ∧ ty = true)) : jKOk G l own d nm true ty Hs (16 * i + 2, jsCW (ra ++ [16 + ci]) t rc Cf) := by
  have hci : ci < 1000 := by obtain ⟨_, _, h, _⟩ := hc; exact h
  refine ⟨?_, jCW_2 (.inl rfl) (fun _ => rfl) hM.2 ht hrc⟩
  intro I n hI X cc nL ret pc lr st σ σ' r R mk kn kj x C hH hXl hd hs h hkn hmk hkj
  obtain ⟨rfl, rfl⟩ := jk_invokevirtual hI
  refine jsCW_st (mk := mk) (kn := kn) (kj := kj) (pc := pc) (.inl rfl) (fun _ => rfl) hM.2 ht hrc hs h fun ws s st1 σ1 z hlen hst hwd hk hq he hp hk1 h => ?_
  obtain ⟨a, ws', rfl, hl', e1, e2, e3⟩ := jrev_this (s := jgs s) (by omega) hlen
  have hT := (hk _ e3 (by show 16 ≤ 16 + ci; omega)).2.zz
  have k1 := hkn _ _ (fun e => nomatch e) he hk1 h
  rw [hp] at k1
  rw [hst, e2]
  refine js_callV (jgs (jzs ra.reverse ws')) C hXl hc (hXl ▸ hH.1) hM.1 hd' (⟨a :: ws', z, by simpa using hlen, by rw [e1], hk, hq, rfl⟩ : jFW true _ t Cf _ σ σ1 (t, z)) (fun e9 : t = 9 => ht9 e9) ?_ hT.1 (by rw [hT.2.2.1]; show jTk (16 + ci) = _; unfold jTk; rw [if_pos (by omega)]; omega) hd rfl (by rw [jwords_g]; exact hwd) k1
  unfold jgs; rw [List.length_map, jzs_len (by simp [hl'])]; simp
theorem jsVR_ok {ci : Nat} {Cf : List Int → jS → Option Int} (hc : jcv own i ci y bytes maxL rt ra.length) (hM : jM G l d' y (ws_ y bytes maxL rt) (jFR true ((ra ++ [16 + ci]).reverse) t Cf)) (hd' : d' + 1 ≤ d) (ht9 : ¬ t = 9) (ht : t < 16) (hrc : rc = 0 ∨ (16 ≤ rc ∧ t = 2 ∧ ty = true)) : jKOk G l own d nm wr ty Hs (16 * i + 2, jsCR (ra ++ [16 + ci]) t rc Cf) := by
  have hci : ci < 1000 := by obtain ⟨_, _, h, _⟩ := hc; exact h
  refine ⟨?_, jCR_2 (ty' := true) (.inl rfl) ht hrc⟩
  intro I n hI X cc nL ret pc lr st σ σ' r R mk kn kj x C hH hXl hd hs h hkn hmk hkj
  obtain ⟨rfl, rfl⟩ := jk_invokevirtual hI
  refine jsCR_st (mk := mk) (kn := kn) (kj := kj) (pc := pc) (ty' := true) (.inl rfl) ht hrc hs h fun ws s st1 z hlen hst hwd hk hq hp hk1 h => ?_
  obtain ⟨a, ws', rfl, hl', e1, e2, e3⟩ := jrev_this (s := jgs s) (by omega) hlen
  have hT := (hk _ e3 (by show 16 ≤ 16 + ci; omega)).2.zz
  have k1 := hkn _ _ (fun _ => rfl) (fun _ => jEx.rfl) hk1 h
  rw [hp] at k1
  rw [hst, e2]
  refine js_callV (jgs (jzs ra.reverse ws')) C hXl hc (hXl ▸ hH.1) hM hd' (⟨a :: ws', z, by simpa using hlen, by rw [e1], hk, hq, rfl, rfl⟩ : jFR true _ t Cf _ σ σ (t, z)) (fun e9 : t = 9 => ht9 e9) ?_ hT.1 (by rw [hT.2.2.1]; show jTk (16 + ci) = _; unfold jTk; rw [if_pos (by omega)]; omega) hd rfl (by rw [jwords_g]; exact hwd) k1
  unfold jgs; rw [List.length_map, jzs_len (by simp [hl'])]; simp
theorem jsSW_ok {Cf : List Int → jS → Option (jS × Int)} (hc : jcs own i y bytes maxL rt ts.length) (hM : jM G l d' y (ws_ y bytes maxL rt) (jFW true ts.reverse t Cf) ∧ jXt true ts.reverse Cf) (hd' : d' + 1 ≤ d) (ht9 : ¬ t = 9) (ht : t < 16) (hrc : rc = 0 ∨ (16 ≤ rc ∧ t = 2 ∧ ty = true)) : jKOk G l own d nm true ty Hs (16 * i + 3, jsCW ts t rc Cf) := by
  refine ⟨?_, jCW_2 (.inl rfl) (fun _ => rfl) hM.2 ht hrc⟩
  intro I n hI X cc nL ret pc lr st σ σ' r R mk kn kj x C hH hXl hd hs h hkn hmk hkj
  obtain ⟨rfl, rfl⟩ := jk_invokestatic hI
  refine jsCW_st (mk := mk) (kn := kn) (kj := kj) (pc := pc) (.inl rfl) (fun _ => rfl) hM.2 ht hrc hs h fun ws s st1 σ1 z hlen hst hwd hk hq he hp hk1 h => ?_
  have k1 := hkn _ _ (fun e => nomatch e) he hk1 h
  rw [hp] at k1
  rw [hst]
  refine js_callS (jgs (jzs ts.reverse ws)) C hXl hc (hXl ▸ hH.1) hM.1 hd' (⟨ws, z, by simp [hlen], rfl, hk, hq, rfl⟩ : jFW true _ t Cf _ σ σ1 (t, z)) (fun e9 : t = 9 => ht9 e9) ?_ hd rfl (by rw [jwords_g]; exact hwd) k1
  unfold jgs; rw [List.length_map, jzs_len (by simp [hlen])]; simp
theorem jsSR_ok {Cf : List Int → jS → Option Int} (hc : jcs own i y bytes maxL rt ts.length) (hM : jM G l d' y (ws_ y bytes maxL rt) (jFR true ts.reverse t Cf)) (hd' : d' + 1 ≤ d) (ht9 : ¬ t = 9) (ht : t < 16) (hrc : rc = 0 ∨ (16 ≤ rc ∧ t = 2 ∧ ty = true)) : jKOk G l own d nm wr ty Hs (16 * i + 3, jsCR ts t rc Cf) := by
  refine ⟨?_, jCR_2 (ty' := true) (.inl rfl) ht hrc⟩
  intro I n hI X cc nL ret pc lr st σ σ' r R mk kn kj x C hH hXl hd hs h hkn hmk hkj
  obtain ⟨rfl, rfl⟩ := jk_invokestatic hI
  refine jsCR_st (mk := mk) (kn := kn) (kj := kj) (pc := pc) (ty' := true) (.inl rfl) ht hrc hs h fun ws s st1 z hlen hst hwd hk hq hp hk1 h => ?_
  have k1 := hkn _ _ (fun _ => rfl) (fun _ => jEx.rfl) hk1 h
  rw [hp] at k1
  rw [hst]
  refine js_callS (jgs (jzs ts.reverse ws)) C hXl hc (hXl ▸ hH.1) hM hd' (⟨ws, z, by simp [hlen], rfl, hk, hq, rfl, rfl⟩ : jFR true _ t Cf _ σ σ (t, z)) (fun e9 : t = 9 => ht9 e9) ?_ hd rfl (by rw [jwords_g]; exact hwd) k1
  unfold jgs; rw [List.length_map, jzs_len (by simp [hlen])]; simp
theorem jrev_raw {ws : List Int} {s : List jT} (h16 : jrt tt = true) (hlen : ws.length = (ra ++ [tt]).length) : ∃ a ws', ws = a :: ws' ∧ ws'.length = ra.length ∧ jgs (jzs (ra ++ [tt]).reverse ws) = (2, a) :: jgs (jzs ra.reverse ws') ∧ (jgs (jzs (ra ++ [tt]).reverse ws)).reverse ++ s = (jgs (jzs ra.reverse ws')).reverse ++ (2, a) :: s := by
  cases ws with
  | nil => simp at hlen
  | cons a ws' =>
    have e : (ra ++ [tt]).reverse = tt :: ra.reverse := by simp
    have e2 : jgs (jzs (ra ++ [tt]).reverse (a :: ws')) = (2, a) :: jgs (jzs ra.reverse ws') := by
      rw [e]
      show jgs ((tt, a) :: _) = _
      rw [jgs_c, jgm_rt h16]
    refine ⟨a, ws', rfl, by simpa using hlen, e2, ?_⟩
    rw [e2]; simp
theorem jsIW_st {Cf : List Int → jS → Option (jS × Int)} (hty' : ty' = true ∨ ∀ t ∈ ts, t < 16) (htt : ty = true → ty' = true) (hX : jXt ty' ts.reverse Cf) {R : Type} {mk : jS → jT → Option R} {kn : List jT → jS → Option R} {kj : Nat → List jT → jS → Option R} {pc : Nat} {st : List jT} {σ : jS} {x : R} {P : Prop} (hs : ∀ v ∈ st, jtk ty σ v) (h : jsIW ts Cf R mk kn kj pc st σ = some x)
    (hP : ∀ a ws s σ1 z, (a :: ws).length = ts.length → 0 ≤ a → jgs st = (jgs (jzs ts.reverse (a :: ws))).reverse ++ jgs s → jwords s ≤ 33 → (∀ v ∈ jzs ts.reverse (a :: ws), jtk ty' σ v) → Cf (a :: ws) σ = some (σ1, z) → (ty = true → jEx σ σ1) → (∀ v ∈ s, jtk ty σ1 v) → kn s σ1 = some x → P) : P := by
  dsimp only [jsIW] at h
  split at h
  · rename_i a vs cs s e
    split at h
    · rename_i g
      have hwd := Nat.le_of_ble_eq_true g
      obtain ⟨ws, cs0, hv, rfl, hlen, hst, hsub, hT⟩ := jpop_b e
      rw [List.append_nil] at h hv
      subst hv
      obtain ⟨q, hq, h⟩ := jb_b h
      obtain ⟨hc, hq⟩ := jcts_b hq
      obtain ⟨σ1, z⟩ := q
      unfold jck0 at hq; split at hq
      · rename_i h0
        have hk := jpop_k (ty := ty) (s := s) hty' hs (hT σ (fun v hv g => (hs v hv g).2) hc)
        have hex : ty = true → jEx σ σ1 := fun e => hX (htt e) (a :: vs) σ (σ1, z) (by simp [← hlen]) hk hq
        exact hP a vs s σ1 z hlen h0 hst hwd hk hq hex (jst_e (fun v hv => hs v (hsub v hv)) hex) h
      · cases hq
    · cases h
  · cases h
theorem jsIW_ok {Cf : List Int → jS → Option (jS × Int)} (hc : jci own i y bytes maxL ra.length) (hM : jM G l d' y (ws_ y bytes maxL none) (jFW ty' ((ra ++ [tt]).reverse) 5 Cf) ∧ jXt ty' ((ra ++ [tt]).reverse) Cf) (hd' : d' + 1 ≤ d) (hty' : ty' = true ∨ ∀ t ∈ ra ++ [tt], t < 16) (htt : ty = true → ty' = true) (hrt : jrt tt = true) : jKOk G l own d nm true ty Hs (16 * i + 4, jsIW (ra ++ [tt]) Cf) := by
  refine ⟨?_, ?_⟩
  · intro I n hI X cc nL ret pc lr st σ σ' r R mk kn kj x C hH hXl hd hs h hkn hmk hkj
    obtain ⟨rfl, rfl⟩ := jk_invokespecial hI
    refine jsIW_st (mk := mk) (kn := kn) (kj := kj) (pc := pc) hty' htt hM.2 hs h fun a ws s σ1 z hlen h0 hst hwd hk hq he hk1 h => ?_
    obtain ⟨a', ws', e0, hl', e1, e2⟩ := jrev_raw (s := jgs s) hrt hlen
    cases e0
    have k1 := hkn _ _ (fun e => nomatch e) he hk1 h
    rw [hst, e2]
    refine js_callI (jgs (jzs ra.reverse ws)) C hXl hc (hXl ▸ hH.1) hM.1 hd' (⟨a :: ws, z, by simpa using hlen, by rw [e1], hk, hq, rfl⟩ : jFW ty' _ 5 Cf _ σ σ1 (5, z)) (fun e9 : (5 : Nat) = 9 => nomatch e9) ?_ h0 hd rfl (by rw [jwords_g]; exact hwd) k1
    unfold jgs; rw [List.length_map, jzs_len (by simp [hl'])]; simp
  · intro hty R mk kn kj pc st σ x P hs h hkn hmk hkj
    exact jsIW_st (mk := mk) (kn := kn) (kj := kj) (pc := pc) hty' htt hM.2 hs h fun a ws s σ1 z _ _ _ _ _ _ he hk h => hkn _ _ (he hty) (fun e => nomatch e) hk h
theorem jsO_ok (w1 : Cond.methodLink own i Lib.objectInit ∈ lw_all) (w2 : Cond.instanceMethod Lib.objectInit ∈ lw_all) (w3 : Cond.code Lib.objectInit ⟨#[0xb1]⟩ 1 none ∈ lw_all) (hd1 : 1 ≤ d) : jKOk G l own d nm wr ty Hs (16 * i + 4, jsO) := by
  refine ⟨?_, ?_⟩
  · intro I n hI X cc nL ret pc lr st σ σ' r R mk kn kj x C hH hXl hd hs h hkn hmk hkj
    obtain ⟨rfl, rfl⟩ := jk_invokespecial hI
    dsimp only [jsO] at h
    split at h
    · split at h
      · rename_i g
        rw [Bool.and_eq_true] at g
        have hwd := Nat.le_of_ble_eq_true g.1
        unfold jck0 at h; split at h
        · rename_i h0
          rw [jgs_c, jgm_rt g.2]
          exact jr_objInit C w1 w2 w3 h0 hd hd1 (by rw [jwords_g]; exact hwd) (hkn _ _ (fun _ => rfl) (fun _ => jEx.rfl) (jst_c hs).2 h)
        · cases h
      · cases h
    · cases h
  · intro hty R mk kn kj pc st σ x P hs h hkn hmk hkj
    dsimp only [jsO] at h
    split at h
    · split at h
      · unfold jck0 at h; split at h
        · exact hkn _ _ jEx.rfl (fun _ => rfl) (jst_c hs).2 h
        · cases h
      · cases h
    · cases h
def jth {α : Type} (b : Bool) (A B : Option α) : Option α := if b = true then A else B
def jsCX (Hs : jHs) (ts : List Nat) (t rc : Nat) (C : List Int → jS → Option (jS × Bool × Int)) : jStp := fun _ mk kn kj pc st σ => match jpop ts st [] [] with
  | some (vs, cs, s) => if Nat.ble (jwords s) 33 then (jcts σ cs (C vs σ)).bind fun q => jth q.2.1 (jthr mk kj pc q.2.2 q.1 Hs) (jres rc t q.2.2 q.1 s kn) else none
  | _ => none
def jsT (Hs : jHs) : jStp := fun _ mk _ kj pc st σ => match st with
  | (ta, a) :: _ => if jrt ta then jck0 a (jthr mk kj pc a σ Hs) else none
  | _ => none
theorem jsT_ok : jKOk G l own d nm wr ty Hs (127, jsT Hs) := by
  refine ⟨?_, ?_⟩
  · intro I n hI X cc nL ret pc lr st σ σ' r R mk kn kj x C hH hXl hd hs h hkn hmk hkj
    obtain ⟨rfl, rfl⟩ := jk_athrow hI
    dsimp only [jsT] at h
    split at h
    · split at h
      · rename_i ta a s g
        unfold jck0 at h; split at h
        · rename_i h0
          rw [jgs_c, jgm_rt g]
          refine jr_athrow C hd h0 ?_
          rcases jthr_b h with ⟨h1, h2⟩ | ⟨q, h1, h2⟩
          · obtain ⟨e1, e2⟩ := hmk _ _ (fun _ => rfl) h2
            exact (hH.2 pc lr σ σ' r a h0).1 h1 e1 e2.symm
          · exact (hH.2 pc lr σ σ' r a h0).2 q h1 (hkj q [(2, a)] σ (fun _ => rfl) (fun _ => jEx.rfl) (jst_k (by show 2 < 16; decide) (fun _ h => nomatch h)) h2)
        · cases h
      · cases h
    · cases h
  · intro hty R mk kn kj pc st σ x P hs h hkn hmk hkj
    dsimp only [jsT] at h
    split at h
    · split at h
      · unfold jck0 at h; split at h
        · rcases jthr_b h with ⟨h1, h2⟩ | ⟨q, h1, h2⟩
          · exact hmk _ _ jEx.rfl (fun _ => rfl) h2
          · exact hkj q [(2, _)] _ jEx.rfl (fun _ => rfl) (jst_k (by show 2 < 16; decide) (fun _ h => by cases h)) h2
        · cases h
      · cases h
    · cases h
theorem jsCX_st {Cf : List Int → jS → Option (jS × Bool × Int)} (hty' : ty' = true ∨ ∀ t ∈ ts, t < 16) (htt : ty = true → ty' = true) (hX : jXt ty' ts.reverse Cf) (ht : t < 16) (hrc : rc = 0 ∨ (16 ≤ rc ∧ t = 2 ∧ ty = true)) {R : Type} {mk : jS → jT → Option R} {kn : List jT → jS → Option R} {kj : Nat → List jT → jS → Option R} {pc : Nat} {st : List jT} {σ : jS} {x : R} {P : Prop} (hs : ∀ v ∈ st, jtk ty σ v) (h : jsCX Hs ts t rc Cf R mk kn kj pc st σ = some x)
    (hP : ∀ ws s σ1 b z, ws.length = ts.length → jgs st = (jgs (jzs ts.reverse ws)).reverse ++ jgs s → jwords s ≤ 33 → (∀ v ∈ jzs ts.reverse ws, jtk ty' σ v) → Cf ws σ = some (σ1, b, z) → (ty = true → jEx σ σ1) → (b = false → ∃ st1, jgs st1 = jpush (t, z) (jgs s) ∧ (∀ v ∈ st1, jtk ty σ1 v) ∧ kn st1 σ1 = some x) → (b = true → jthr mk kj pc z σ1 Hs = some x) → P) : P := by
  dsimp only [jsCX] at h
  split at h
  · rename_i vs cs s e
    split at h
    · rename_i g
      have hwd := Nat.le_of_ble_eq_true g
      obtain ⟨ws, cs0, rfl, rfl, hlen, hst, hsub, hT⟩ := jpop_b e
      rw [List.append_nil, List.append_nil] at h
      obtain ⟨q, hq, h⟩ := jb_b h
      obtain ⟨hc, hq⟩ := jcts_b hq
      obtain ⟨σ1, b, z⟩ := q
      have hk := jpop_k (ty := ty) (s := s) hty' hs (hT σ (fun v hv g => (hs v hv g).2) hc)
      have hex : ty = true → jEx σ σ1 := fun e => hX (htt e) ws σ (σ1, b, z) (by simp [hlen]) hk hq
      refine hP ws s σ1 b z hlen hst hwd hk hq hex (fun e => ?_) (fun e => ?_)
      · subst e
        unfold jth at h
        rw [if_neg (by simp)] at h
        exact jres_st ht hrc (jst_e (fun v hv => hs v (hsub v hv)) hex) h fun st1 a b c => ⟨st1, a, b, c⟩
      · subst e
        unfold jth at h
        rw [if_pos rfl] at h
        exact h
    · cases h
  · cases h
theorem jCX_2 {Cf : List Int → jS → Option (jS × Bool × Int)} (hty' : ty' = true ∨ ∀ t ∈ ts, t < 16) (htt : ty = true → ty' = true) (hX : jXt ty' ts.reverse Cf) (ht : t < 16) (hrc : rc = 0 ∨ (16 ≤ rc ∧ t = 2 ∧ ty = true)) : jSt2 true ty (jsCX Hs ts t rc Cf) := by
  intro hty R mk kn kj pc st σ x P hs h hkn hmk hkj
  refine jsCX_st (mk := mk) (kn := kn) (kj := kj) (pc := pc) hty' htt hX ht hrc hs h fun ws s σ1 b z _ _ _ _ _ he h1 h2 => ?_
  cases b with
  | false => obtain ⟨st1, _, a2, a3⟩ := h1 rfl; exact hkn _ _ (he hty) (fun e => nomatch e) a2 a3
  | true =>
    rcases jthr_b (h2 rfl) with ⟨_, h2⟩ | ⟨q, _, h2⟩
    · exact hmk _ _ (he hty) (fun e => nomatch e) h2
    · exact hkj q [(2, _)] _ (he hty) (fun e => nomatch e) (jst_k (by show 2 < 16; decide) (fun _ h => by cases h)) h2
/-- an exception of a callee, in the caller -/
theorem jx_at {X : jX} {nL pc : Nat} {lr : List (Nat × jT)} {σ1 σ' : jS} {r : jT} {z : Int} {R : Type} {mk : jS → jT → Option R} {kj : Nat → List jT → jS → Option R} {x : R} (hH : jHk G X nL Hs) (h0 : 0 ≤ z) (h : jthr mk kj pc z σ1 Hs = some x) (hmk : ∀ σ1 v, mk σ1 v = some x → σ1 = σ' ∧ v = r) (hkj : ∀ q, kj q [(2, z)] σ1 = some x → jWP G X nL q lr [(2, z)] σ1 σ' r) : jXW G X nL pc lr σ1 σ' r z := by
  rcases jthr_b h with ⟨h1, h2⟩ | ⟨q, h1, h2⟩
  · obtain ⟨e1, e2⟩ := hmk _ _ h2
    exact (hH pc lr σ1 σ' r z h0).1 h1 e1 e2.symm
  · exact (hH pc lr σ1 σ' r z h0).2 q h1 (hkj q h2)
theorem jsVX_ok {ci : Nat} {Cf : List Int → jS → Option (jS × Bool × Int)} (hc : jcv own i ci y bytes maxL rt ra.length) (hM : jM G l d' y (ws_ y bytes maxL rt) (jFX true ((ra ++ [16 + ci]).reverse) t Cf) ∧ jXt true ((ra ++ [16 + ci]).reverse) Cf) (hd' : d' + 1 ≤ d) (ht9 : ¬ t = 9) (ht : t < 16) (hrc : rc = 0 ∨ (16 ≤ rc ∧ t = 2 ∧ ty = true)) : jKOk G l own d nm true ty Hs (16 * i + 2, jsCX Hs (ra ++ [16 + ci]) t rc Cf) := by
  have hci : ci < 1000 := by obtain ⟨_, _, h, _⟩ := hc; exact h
  refine ⟨?_, jCX_2 (.inl rfl) (fun _ => rfl) hM.2 ht hrc⟩
  intro I n hI X cc nL ret pc lr st σ σ' r R mk kn kj x C hH hXl hd hs h hkn hmk hkj
  obtain ⟨rfl, rfl⟩ := jk_invokevirtual hI
  refine jsCX_st (mk := mk) (kn := kn) (kj := kj) (pc := pc) (.inl rfl) (fun _ => rfl) hM.2 ht hrc hs h fun ws s σ1 b z hlen hst hwd hk hq he h1 h2 => ?_
  obtain ⟨a, ws', rfl, hl', e1, e2, e3⟩ := jrev_this (s := jgs s) (by omega) hlen
  have hT := (hk _ e3 (by show 16 ≤ 16 + ci; omega)).2.zz
  rw [hst, e2]
  refine jsx_callV (jgs (jzs ra.reverse ws')) C hXl hc (hXl ▸ hH.1) hM.1 hd' (⟨a :: ws', b, z, by simpa using hlen, by rw [e1], hk, hq, rfl⟩ : jFX true _ t Cf _ σ σ1 (jrx t b z)) ?_ hT.1 (by rw [hT.2.2.1]; show jTk (16 + ci) = _; unfold jTk; rw [if_pos (by omega)]; omega) hd rfl (by rw [jwords_g]; exact hwd) (fun g => ?_) (fun g g0 => ?_)
  · unfold jgs; rw [List.length_map, jzs_len (by simp [hl'])]; simp
  · cases b with
    | false =>
      obtain ⟨st1, a1, a2, a3⟩ := h1 rfl
      have k1 := hkn _ _ (fun e => nomatch e) he a2 a3
      rw [a1] at k1; exact k1
    | true => exact absurd rfl g
  · cases b with
    | false => exact absurd g ht9
    | true => exact jx_at hH.2 g0 (h2 rfl) (fun σ1 v h => hmk σ1 v (fun e => nomatch e) h) (fun q h => hkj q [(2, z)] σ1 (fun e => nomatch e) he (jst_k (by show 2 < 16; decide) (fun _ h => nomatch h)) h)
theorem jsSX_ok {Cf : List Int → jS → Option (jS × Bool × Int)} (hc : jcs own i y bytes maxL rt ts.length) (hM : jM G l d' y (ws_ y bytes maxL rt) (jFX true ts.reverse t Cf) ∧ jXt true ts.reverse Cf) (hd' : d' + 1 ≤ d) (ht9 : ¬ t = 9) (ht : t < 16) (hrc : rc = 0 ∨ (16 ≤ rc ∧ t = 2 ∧ ty = true)) : jKOk G l own d nm true ty Hs (16 * i + 3, jsCX Hs ts t rc Cf) := by
  refine ⟨?_, jCX_2 (.inl rfl) (fun _ => rfl) hM.2 ht hrc⟩
  intro I n hI X cc nL ret pc lr st σ σ' r R mk kn kj x C hH hXl hd hs h hkn hmk hkj
  obtain ⟨rfl, rfl⟩ := jk_invokestatic hI
  refine jsCX_st (mk := mk) (kn := kn) (kj := kj) (pc := pc) (.inl rfl) (fun _ => rfl) hM.2 ht hrc hs h fun ws s σ1 b z hlen hst hwd hk hq he h1 h2 => ?_
  rw [hst]
  refine jsx_callS (jgs (jzs ts.reverse ws)) C hXl hc (hXl ▸ hH.1) hM.1 hd' (⟨ws, b, z, by simp [hlen], rfl, hk, hq, rfl⟩ : jFX true _ t Cf _ σ σ1 (jrx t b z)) ?_ hd rfl (by rw [jwords_g]; exact hwd) (fun g => ?_) (fun g g0 => ?_)
  · unfold jgs; rw [List.length_map, jzs_len (by simp [hlen])]; simp
  · cases b with
    | false =>
      obtain ⟨st1, a1, a2, a3⟩ := h1 rfl
      have k1 := hkn _ _ (fun e => nomatch e) he a2 a3
      rw [a1] at k1; exact k1
    | true => exact absurd rfl g
  · cases b with
    | false => exact absurd g ht9
    | true => exact jx_at hH.2 g0 (h2 rfl) (fun σ1 v h => hmk σ1 v (fun e => nomatch e) h) (fun q h => hkj q [(2, z)] σ1 (fun e => nomatch e) he (jst_k (by show 2 < 16; decide) (fun _ h => nomatch h)) h)
end jSteps
end
