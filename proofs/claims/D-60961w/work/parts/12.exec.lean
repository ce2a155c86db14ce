noncomputable section
/-! the executor -/
abbrev jRow : Type := Nat × Instr × Nat × Nat × Int × Int
def jStp : Type 1 := (R : Type) → (jS → jT → Option R) → (List jT → jS → Option R) → (Nat → List jT → jS → Option R) → Nat → List jT → jS → Option R
abbrev jEs : Type 1 := List (Nat × jStp)
abbrev jUs (R : Type) : Type := List (Nat × (List (Nat × jT) → List jT → jS → Option R))

def jat (a : ArrayType) : Nat := match newarray.typeOf a with
  | .int => 0
  | .byte => 1
  | .boolean => 2
  | .short => 3
  | .long => 4
  | .char => 5
  | _ => 6
/-- the steps that go by a place of the pool: key and length -/
def jkey (I : Instr) : Option (Nat × Nat) := match I with
  | .getfield i => some (16 * i, 3)
  | .putfield i => some (16 * i + 1, 3)
  | .invokevirtual i => some (16 * i + 2, 3)
  | .invokestatic i => some (16 * i + 3, 3)
  | .invokespecial i => some (16 * i + 4, 3)
  | .new i => some (16 * i + 5, 3)
  | .anewarray i => some (16 * i + 6, 3)
  | .ldc i => some (16 * i + 7, 2)
  | .ldc_w i => some (16 * i + 8, 3)
  | .ldc2_w i => some (16 * i + 9, 3)
  | .checkcast i => some (16 * i + 10, 3)
  | .instanceof i => some (16 * i + 11, 3)
  | .getstatic i => some (16 * i + 12, 3)
  | .invokeinterface i _ => some (16 * i + 13, 5)
  | .multianewarray i k => if k = 2 then some (16 * i + 14, 4) else none
  | .newarray a => some (16 * jat a + 15, 2)
  | .athrow => some (127, 1)
  | _ => none
def jcmp {α : Type} (q : Jvm.ClassFile.Cond) (x y : Int) (A B : α) : α := match q with
  | .eq => if x = y then A else B
  | .ne => if x = y then B else A
  | .lt => if x < y then A else B
  | .ge => if x < y then B else A
  | .gt => if y < x then A else B
  | .le => if y < x then B else A
def jtsw {α : Type} (k : Int → α) (x : Int) : Int → List Int → α → α
  | _, [], D => D
  | lo, o :: os, D => if x = lo then k o else jtsw k x (lo + 1) os D
def jlsw {α : Type} (k : Int → α) (x : Int) : List (Int × Int) → α → α
  | [], D => D
  | q :: os, D => if x = q.1 then k q.2 else jlsw k x os D

/-- the kind of an array, and what its element is -/
def jak (t : Int) : Option FieldType := match t with
  | .ofNat t => if Nat.ble 1000 t && Nat.blt t 2000 then jEt (t - 1000) else none
  | _ => none
def jarf (t : Int) : Bool := match jak t with
  | some ty => ty.isReference && Nat.beq (jtag ty) 2
  | none => false

/-- arrays of a type: their kind, their length -/
def jaN (ta : Nat) : Nat := Nat.add 999 (Nat.mod (Nat.div ta 1048576) 64)
def jaT (ta c : Nat) : Bool := Nat.ble 1048576 ta && Nat.beq (jaN ta) c
def jaL (σ : jS) (ta : Nat) (a : Int) : Int := if Nat.beq (Nat.mod ta 1048576) 0 then jN σ a else Int.ofNat (Nat.pred (Nat.mod ta 1048576))
def jald {R : Type} (c : Int) (cN ta : Nat) (a i : Int) (σ : jS) (k : Int → Option R) : Option R := if Nat.beq ta 2 then (jld σ c a i).bind k else if jaT ta cN then (jlt σ c a (jaL σ ta a) i).bind k else none
def jast {R : Type} (c : Int) (cN ta : Nat) (a i v : Int) (σ : jS) (k : jS → Option R) : Option R := if Nat.beq ta 2 then (jsa σ c a i v).bind k else if jaT ta cN then (jst σ c a (jaL σ ta a) i v).bind k else none
/-- a store into an array of objects: of an object whose class is asked, of one whose type tells it -/
def jas (σ : jS) (t c a i v : Int) : Option jS := if 0 ≤ a ∧ jK σ a = t ∧ 0 ≤ i ∧ i < jN σ a ∧ (v = -1 ∨ 0 ≤ v ∧ jK σ v = c) then some (jp σ t a i v) else none
def jav (σ : jS) (c v : Int) : Option Int := if v = -1 ∨ 0 ≤ v ∧ jK σ v = c then some v else none
def jsk (t : Int) : Bool := jSak t

def jcok (t c : Int) : Bool := match jak t, c with
  | some (.object E), .ofNat c => match jCl[c]? with
    | some rr => decide (rr.1 = E) && Nat.blt c 1000
    | none => false
  | _, _ => false
def jto {R : Type} (pc : Nat) (o : Int) (k : Nat → Option R) : Option R := match (pc : Int) + o with
  | .ofNat q => k q
  | _ => none

def jctl {R : Type} (wr ty : Bool) (rt : Nat) (mk : jS → jT → Option R) (kn : List jT → jS → Option R) (kj : Nat → List jT → jS → Option R) (pc n : Nat) (t c : Int) (I : Instr) (st : List jT) (σ : jS) : Option R := match I with
  | .goto o => if Nat.beq n 3 then jto pc o fun p => kj p st σ else none
  | .ifCond q o => match st with
    | (0, x) :: s => if Nat.beq n 3 then jto pc o fun p => jcmp q x 0 (kj p s σ) (kn s σ) else none
    | _ => none
  | .if_icmp q o => match st with
    | (0, y) :: (0, x) :: s => if Nat.beq n 3 then jto pc o fun p => jcmp q x y (kj p s σ) (kn s σ) else none
    | _ => none
  | .if_acmp q o => match st with
    | (tb, y) :: (ta, x) :: s => if Nat.beq n 3 && jrt ta && jrt tb then jto pc o fun p => (match q with
      | .eq => if x = y then kj p s σ else kn s σ
      | .ne => if x = y then kn s σ else kj p s σ) else none
    | _ => none
  | .ifnull o => match st with
    | (ta, z) :: s => if Nat.beq n 3 && jrt ta then jto pc o fun p => (if z < 0 then kj p s σ else kn s σ) else none
    | _ => none
  | .ifnonnull o => match st with
    | (ta, z) :: s => if Nat.beq n 3 && jrt ta then jto pc o fun p => (if z < 0 then kn s σ else kj p s σ) else none
    | _ => none
  | .tableswitch d lo hi os => match st with
    | (0, x) :: s => if hi = lo + os.toList.length - 1 then jtsw (fun o => jto pc o fun p => kj p s σ) x lo os.toList (jto pc d fun p => kj p s σ) else none
    | _ => none
  | .lookupswitch d ps => match st with
    | (0, x) :: s => if (ps.toList.zip (ps.toList.drop 1)).all (fun (a, next) => a.1 < next.1) then jlsw (fun o => jto pc o fun p => kj p s σ) x ps.toList (jto pc d fun p => kj p s σ) else none
    | _ => none
  | .idiv => match st with
    | (0, y) :: (0, x) :: s => if Nat.beq n 1 then (jdv y (I_div x y)).bind fun v => kn ((0, v) :: s) σ else none
    | _ => none
  | .irem => match st with
    | (0, y) :: (0, x) :: s => if Nat.beq n 1 then (jdv y (I_rem x y)).bind fun v => kn ((0, v) :: s) σ else none
    | _ => none
  | .ldiv => match st with
    | (1, y) :: (1, x) :: s => if Nat.beq n 1 then (jdv y (L_div x y)).bind fun v => kn ((1, v) :: s) σ else none
    | _ => none
  | .lrem => match st with
    | (1, y) :: (1, x) :: s => if Nat.beq n 1 then (jdv y (L_rem x y)).bind fun v => kn ((1, v) :: s) σ else none
    | _ => none
  | .ireturn => match st with
    | [(0, v)] => if Nat.beq n 1 then (match rt with
      | 0 => mk σ (0, v)
      | 1 => mk σ (0, Wz v)
      | 5 => mk σ (0, Wc v)
      | 6 => mk σ (0, W8 v)
      | _ => none) else none
    | _ => none
  | .lreturn => match st with
    | [(1, v)] => if Nat.beq n 1 && Nat.beq rt 2 then mk σ (1, v) else none
    | _ => none
  | .areturn => match st with
    | [(ta, v)] => if Nat.beq n 1 && Nat.beq rt 3 && jrt ta then mk σ (2, v) else none
    | _ => none
  | .return_ => match st with
    | [] => if Nat.beq n 1 && Nat.beq rt 4 then mk σ (5, 0) else none
    | _ => none
  | .iaload => match st with
    | (0, i) :: (ta, a) :: s => if Nat.beq n 1 then (if t = 4000 then (if Nat.beq ta 2 then (jldE σ 1000 a i).bind fun v => kn ((0, v) :: s) σ else none) else jald 1000 1000 ta a i σ fun v => kn ((0, v) :: s) σ) else none
    | _ => none
  | .saload => match st with
    | (0, i) :: (ta, a) :: s => if Nat.beq n 1 then jald 1003 1003 ta a i σ fun v => kn ((0, v) :: s) σ else none
    | _ => none
  | .laload => match st with
    | (0, i) :: (ta, a) :: s => if Nat.beq n 1 then jald 1004 1004 ta a i σ fun v => kn ((1, v) :: s) σ else none
    | _ => none
  | .caload => match st with
    | (0, i) :: (ta, a) :: s => if Nat.beq n 1 then jald 1005 1005 ta a i σ fun v => kn ((0, v) :: s) σ else none
    | _ => none
  | .baload => match st with
    | (0, i) :: (ta, a) :: s => if Nat.beq n 1 then (if t = 4001 then (if Nat.beq ta 2 then (jldE σ 1001 a i).bind fun v => kn ((0, v) :: s) σ else none) else if t = 1002 then jald 1002 1002 ta a i σ fun v => kn ((0, v) :: s) σ else jald 1001 1001 ta a i σ fun v => kn ((0, v) :: s) σ) else none
    | _ => none
  | .aaload => match st with
    | (0, i) :: (ta, a) :: s => if Nat.beq n 1 && jarf t then (if Nat.beq ta 2 then (jld σ t a i).bind fun v => kn ((2, v) :: s) σ else if jaT ta t.toNat then (match jStA ta with
      | some q => (jix (jaL σ ta a) i (a + q.1 + q.2.1 * i)).bind fun v => kn ((q.2.2, v) :: s) σ
      | none => (jlt σ t a (jaL σ ta a) i).bind fun v => kn ((2, v) :: s) σ) else none) else none
    | _ => none
  | .arraylength => match st with
    | (ta, a) :: s => if t = 4000 then (if Nat.beq n 1 && Nat.beq ta 2 then (jlnE σ 1000 a).bind fun v => kn ((0, v) :: s) σ else none) else if t = 4001 then (if Nat.beq n 1 && Nat.beq ta 2 then (jlnE σ 1001 a).bind fun v => kn ((0, v) :: s) σ else none) else if Nat.beq n 1 && (jak t).isSome then (if Nat.beq ta 2 then (jln σ t a).bind fun v => kn ((0, v) :: s) σ else if jaT ta t.toNat then kn ((0, jaL σ ta a) :: s) σ else none) else none
    | _ => none
  | .iastore => match st with
    | (0, x) :: (0, i) :: (ta, a) :: s => if Nat.beq n 1 && wr then jast 1000 1000 ta a i x σ fun σ1 => kn s σ1 else none
    | _ => none
  | .bastore => match st with
    | (0, x) :: (0, i) :: (ta, a) :: s => if Nat.beq n 1 && wr then (if t = 1002 then jast 1002 1002 ta a i (Wz x) σ fun σ1 => kn s σ1 else jast 1001 1001 ta a i (W8 x) σ fun σ1 => kn s σ1) else none
    | _ => none
  | .sastore => match st with
    | (0, x) :: (0, i) :: (ta, a) :: s => if Nat.beq n 1 && wr then jast 1003 1003 ta a i (W16 x) σ fun σ1 => kn s σ1 else none
    | _ => none
  | .lastore => match st with
    | (1, x) :: (0, i) :: (ta, a) :: s => if Nat.beq n 1 && wr then jast 1004 1004 ta a i x σ fun σ1 => kn s σ1 else none
    | _ => none
  | .aastore => match st with
    | (tv, x) :: (0, i) :: (ta, a) :: s => if c < 0 then (if Nat.beq n 1 && wr && (!ty || !(jSak t)) && jrt tv && jrt ta && decide ((jAl c).1 = t) && !(jAl c).2.isEmpty then (jasL σ t (jAl c).2 a i x).bind fun σ1 => kn s σ1 else none) else if Nat.beq n 1 && wr && jcok t c && (!ty || !(jSak t)) && jrt tv then (if Nat.beq ta 2 then (jas σ t c a i x).bind fun σ1 => kn s σ1 else if jaT ta t.toNat then (if Nat.beq tv (16 + c.toNat) then (jst σ t a (jaL σ ta a) i x).bind fun σ1 => kn s σ1 else (jav σ c x).bind fun x => (jst σ t a (jaL σ ta a) i x).bind fun σ1 => kn s σ1) else none) else none
    | _ => none
  | _ => none

def jtop {R : Type} (fl : Nat) (st : List jT) (k : List jT → Option R) : Option R := match fl with
  | 0 => k st
  | 2 => k st
  | _ => match st with
    | (t, v) :: s => jlet v fun x => k ((t, x) :: s)
    | [] => none
def jstep {R : Type} (nL : Nat) (wr ty : Bool) (rt : Nat) (E : jEs) (mk : jS → jT → Option R) (kn : List (Nat × jT) → List jT → jS → Option R) (kj : Nat → List (Nat × jT) → List jT → jS → Option R) (pc n fl : Nat) (t c : Int) (I : Instr) (ls : List (Nat × jT)) (st : List jT) (σ : jS) : Option R := match jpu I with
  | some q => if Nat.beq q.1 n then (match q.2 st with
    | some st' => jtop fl st' fun s => kn ls s σ
    | none => none) else none
  | none => match jlo nL I with
    | some q => if Nat.beq q.1 n then (match q.2 ls st with
      | some p => kn p.1 p.2 σ
      | none => none) else none
    | none => match jkey I with
      | some q => if Nat.beq q.2 n then (match jlk E q.1 with
        | some w => w R mk (fun s σ1 => kn ls s σ1) (fun p s σ1 => kj p ls s σ1) pc st σ
        | none => none) else none
      | none => jctl wr ty rt mk (fun s σ1 => kn ls s σ1) (fun p s σ1 => kj p ls s σ1) pc n t c I st σ
/-- a new exception: its class by its place and its constructor's -/
def jnx (σ : jS) (k : Int) : Option (jS × Int) := if 0 ≤ jn σ ∧ jn σ + 1 ≤ jlN σ ∧ ju σ + 6 ≤ jlU σ then some (jmk σ k 0 (fun _ => 0) 6, jn σ) else none
theorem jnx_b {α : Type} {σ : jS} {k : Int} {f : jS × Int → Option α} {q : α} (h : (jnx σ k).bind f = some q) : 0 ≤ jn σ ∧ jn σ + 1 ≤ jlN σ ∧ ju σ + 6 ≤ jlU σ ∧ f (jmk σ k 0 (fun _ => 0) 6, jn σ) = some q := by
  unfold jnx at h; split at h
  · rename_i g; exact ⟨g.1, g.2.1, g.2.2, h⟩
  · cases h
def jmac {R : Type} (Xs : List (Nat × Int)) (kn : List jT → jS → Option R) (n : Nat) (t : Int) (I : Instr) (st : List jT) (σ : jS) : Option R := match I with
  | .new i => match jlk Xs (Nat.add (Nat.mul 65536 i) t.toNat) with
    | some k => if Nat.beq n 7 && Nat.ble (jwords st) 33 then (jnx σ k).bind fun q => kn ((2, q.2) :: st) q.1 else none
    | none => none
  | _ => none
def jfind : List jRow → Nat → List jRow
  | [], _ => []
  | q :: s, p => if Nat.beq q.1 p then q :: s else jfind s p
def jx {R : Type} (nL : Nat) (wr ty : Bool) (rt : Nat) (full : List jRow) (E : jEs) (Xs : List (Nat × Int)) (mk : jS → jT → Option R) (U : jUs R) : Nat → Bool → Nat → List jRow → List (Nat × jT) → List jT → jS → Option R
  | 0, _, _, _, _, _, _ => none
  | _ + 1, _, _, [], _, _, _ => none
  | f + 1, b, pc, (p, I, n, fl, t, c) :: rest, ls, st, σ => if Nat.beq p pc then (if b || Nat.blt (Nat.mod fl 8) 2 then (if Nat.ble 8 fl then (if wr then jmac Xs (fun st σ => jx nL wr ty rt full E Xs mk U f false (p + n) rest ls st σ) n t I st σ else none) else jstep nL wr ty rt E mk (fun ls st σ => jx nL wr ty rt full E Xs mk U f false (p + n) rest ls st σ) (fun q ls st σ => jx nL wr ty rt full E Xs mk U f false q (jfind full q) ls st σ) p n fl t c I ls st σ)
    else match jlk U p with
      | some u => u ls st σ
      | none => none) else none

theorem jfind_sub : ∀ (s : List jRow) (p : Nat), ∀ q ∈ jfind s p, q ∈ s
  | [], _, q, h => h
  | a :: s, p, q, h => by
    unfold jfind at h; split at h
    · exact h
    · exact List.mem_cons_of_mem _ (jfind_sub s p q h)

/-- who catches at a place: from, to, where, which kinds -/
abbrev jHs : Type := List (Nat × Nat × Nat × List Int)
def jcat_ : jHs → Nat → Int → Option Nat
  | [], _, _ => none
  | (f, t, h, ks) :: r, pc, k => if Nat.ble f pc && Nat.blt pc t then (if k ∈ ks then some h else jcat_ r pc k) else jcat_ r pc k
def jthr0 {R : Type} (kj : Nat → List jT → jS → Option R) (pc : Nat) (a : Int) (σ : jS) : (jS → jT → Option R) → jHs → Option R
  | mq, [] => mq σ (9, a)
  | mq, (f, t, h, ks) :: r => if Nat.ble f pc && Nat.blt pc t then (if jK σ a ∈ ks then kj h [(2, a)] σ else jthr0 kj pc a σ (fun _ _ => none) r) else jthr0 kj pc a σ mq r
def jthr {R : Type} (mk : jS → jT → Option R) (kj : Nat → List jT → jS → Option R) (pc : Nat) (a : Int) (σ : jS) (hs : jHs) : Option R := jthr0 kj pc a σ mk hs
/-- nobody is asked at a place -/
def jnc (hs : jHs) (pc : Nat) : Prop := ∀ e ∈ hs, (Nat.ble e.1 pc && Nat.blt pc e.2.1) = false
theorem jthr_b {R : Type} {kj : Nat → List jT → jS → Option R} {pc : Nat} {a : Int} {σ : jS} {x : R} : ∀ {mk : jS → jT → Option R} {hs : jHs}, jthr mk kj pc a σ hs = some x → (jnc hs pc ∧ mk σ (9, a) = some x) ∨ ∃ h, jcat_ hs pc (jK σ a) = some h ∧ kj h [(2, a)] σ = some x
  | mq, [], h => .inl ⟨fun _ h => (nomatch h), h⟩
  | mq, (f, t, h0, ks) :: r, h => by
    unfold jthr jthr0 at h; unfold jcat_
    split at h
    · rename_i g; rw [if_pos g]
      split at h
      · rename_i g'; rw [if_pos g']; exact .inr ⟨_, rfl, h⟩
      · rename_i g'; rw [if_neg g']
        rcases jthr_b (mk := fun _ _ => none) h with ⟨-, h2⟩ | h2
        · cases h2
        · exact .inr h2
    · rename_i g; rw [if_neg g]
      rcases jthr_b (mk := mq) h with ⟨h1, h2⟩ | h2
      · refine .inl ⟨fun e he => ?_, h2⟩
        rcases List.mem_cons.mp he with rfl | he
        · exact Bool.eq_false_iff.mpr g
        · exact h1 e he
      · exact .inr h2
/-- what becomes of an exception at a place -/
def jHk (G : jG) (X : jX) (nL : Nat) (hs : jHs) : Prop := ∀ (pc : Nat) (ls : List (Nat × jT)) (σ σ' : jS) (r : jT) (a : Int), 0 ≤ a → (jnc hs pc → σ = σ' → r = (9, a) → jXW G X nL pc ls σ σ' r a) ∧ ∀ h, jcat_ hs pc (jK σ a) = some h → jWP G X nL h ls [(2, a)] σ σ' r → jXW G X nL pc ls σ σ' r a
theorem jHk_nil {G : jG} {X : jX} {cc : ByteArray} {own nm : String} {nL d : Nat} {ret : Option FieldType} (C : jC G X cc own nL ret d nm) (hH : jNoH X) : jHk G X nL [] := by
  intro pc ls σ σ' r a h0
  refine ⟨fun _ e1 e2 => ?_, fun h g => by cases g⟩
  subst e1 e2
  exact jx_leave C hH h0
/-- a step by a place of the pool is sound: on the machine, and in what it leaves as it was -/
def jSt1 (G : jG) (l : Launch) (own : String) (d : Nat) (nm : String) (wr ty : Bool) (hs : jHs) (I : Instr) (n : Nat) (w : jStp) : Prop := ∀ (X : jX) (cc : ByteArray) (nL : Nat) (ret : Option FieldType) (pc : Nat) (lr : List (Nat × jT)) (st : List jT) (σ σ' : jS) (r : jT) (R : Type) (mk : jS → jT → Option R) (kn : List jT → jS → Option R) (kj : Nat → List jT → jS → Option R) (x : R),
  jC G X cc own nL ret d nm → (jFl X.2.1 ∧ jHk G X nL hs) → X.2.1 = l → decode cc pc = .ok (I, n) → (∀ v ∈ st, jtk ty σ v) → w R mk kn kj pc st σ = some x → (∀ st1 σ1, (wr = false → σ1 = σ) → (ty = true → jEx σ σ1) → (∀ v ∈ st1, jtk ty σ1 v) → kn st1 σ1 = some x → jWP G X nL (pc + n) lr (jgs st1) σ1 σ' r) → (∀ σ1 v, (wr = false → σ1 = σ) → mk σ1 v = some x → σ1 = σ' ∧ v = r) → (∀ q st1 σ1, (wr = false → σ1 = σ) → (ty = true → jEx σ σ1) → (∀ v ∈ st1, jtk ty σ1 v) → kj q st1 σ1 = some x → jWP G X nL q lr (jgs st1) σ1 σ' r) → jWP G X nL pc lr (jgs st) σ σ' r
def jSt2 (wr ty : Bool) (w : jStp) : Prop := ty = true → ∀ (R : Type) (mk : jS → jT → Option R) (kn : List jT → jS → Option R) (kj : Nat → List jT → jS → Option R) (pc : Nat) (st : List jT) (σ : jS) (x : R) (P : Prop), (∀ v ∈ st, jtk ty σ v) → w R mk kn kj pc st σ = some x → (∀ st1 σ1, jEx σ σ1 → (wr = false → σ1 = σ) → (∀ v ∈ st1, jtk ty σ1 v) → kn st1 σ1 = some x → P) → (∀ σ1 v, jEx σ σ1 → (wr = false → σ1 = σ) → mk σ1 v = some x → P) → (∀ q st1 σ1, jEx σ σ1 → (wr = false → σ1 = σ) → (∀ v ∈ st1, jtk ty σ1 v) → kj q st1 σ1 = some x → P) → P
def jKOk (G : jG) (l : Launch) (own : String) (d : Nat) (nm : String) (wr ty : Bool) (hs : jHs) (q : Nat × jStp) : Prop := (∀ (I : Instr) (n : Nat), jkey I = some (q.1, n) → jSt1 G l own d nm wr ty hs I n q.2) ∧ jSt2 wr ty q.2

def jrtOk (rt : Nat) (ret : Option FieldType) : Prop := match rt with
  | 0 => ret = some .int
  | 1 => ret = some .boolean
  | 2 => ret = some .long
  | 3 => ∃ ty, ret = some ty ∧ ((∃ n, ty = .object n) ∨ ∃ t, ty = .array t)
  | 5 => ret = some .char
  | 6 => ret = some .byte
  | _ => ret = none

section jExec2
variable {G : jG} {X : jX} {l : Launch} {cc : ByteArray} {own nm : String} {nL d pc : Nat} {ret : Option FieldType} {ls lr : List (Nat × jT)} {st : List jT} {σ σ0 σ' : jS} {r : jT} {R : Type} {wr ty : Bool} {rt : Nat} {mk : jS → jT → Option R} {kn : List jT → jS → Option R} {kj : Nat → List jT → jS → Option R} {x : R}
theorem jtsw_in {α : Type} {k : Int → α} {x : Int} : ∀ {os : List Int} {lo : Int} {D : α}, (∃ o, os[(x - lo).toNat]? = some o ∧ ¬ x < lo ∧ jtsw k x lo os D = k o) ∨ ((x < lo ∨ lo + os.length - 1 < x) ∧ jtsw k x lo os D = D)
  | [], lo, D => .inr ⟨by simp only [List.length_nil]; omega, rfl⟩
  | o :: os, lo, D => by
    unfold jtsw; split
    · rename_i e; subst e; exact .inl ⟨o, by simp, by omega, rfl⟩
    · rename_i e
      rcases @jtsw_in α k x os (lo + 1) D with ⟨o', h1, h2, h3⟩ | ⟨h1, h2⟩
      · refine .inl ⟨o', ?_, by omega, h3⟩
        have : (x - lo).toNat = (x - (lo + 1)).toNat + 1 := by omega
        rw [this]; simpa using h1
      · exact .inr ⟨by simp only [List.length_cons]; omega, h2⟩
theorem jlsw_eq {α : Type} {k : Int → α} {x d : Int} : ∀ {ps : List (Int × Int)}, jlsw k x ps (k d) = k (Op.lookupswitch.offset ps d x)
  | [] => rfl
  | (a, o) :: ps => by
    unfold jlsw; rw [Op.lookupswitch.offset_cons]
    by_cases e : x = a
    · rw [if_pos e, if_pos e.symm]
    · rw [if_neg e, if_neg (fun h => e h.symm)]; exact jlsw_eq
theorem jto_b {pc : Nat} {o : Int} {k : Nat → Option R} {x : R} (h : jto pc o k = some x) : ∃ q : Nat, (pc : Int) + o = q ∧ k q = some x := by
  unfold jto at h; split at h
  · rename_i q e; exact ⟨q, e, h⟩
  · cases h
theorem jak_b {t : Int} {ty : FieldType} (h : jak t = some ty) : ∃ t' : Nat, t = 1000 + (t' : Int) ∧ t' < 1000 ∧ jEt t' = some ty := by
  unfold jak at h; split at h
  · split at h
    · rename_i a g
      rw [Bool.and_eq_true] at g
      have h1 := Nat.le_of_ble_eq_true g.1
      have h2 := Nat.blt_eq.mp g.2
      refine ⟨a - 1000, ?_, by omega, h⟩
      show (a : Int) = _; omega
    · cases h
  · cases h
theorem jarf_b {t : Int} (h : jarf t = true) : ∃ (t' : Nat) (ty : FieldType), t = 1000 + (t' : Int) ∧ t' < 1000 ∧ jEt t' = some ty ∧ ty.isReference = true ∧ jtag ty = 2 := by
  unfold jarf at h; split at h
  · rename_i ty e
    rw [Bool.and_eq_true] at h
    obtain ⟨t', h1, h2, h3⟩ := jak_b e
    exact ⟨t', ty, h1, h2, h3, h.1, Nat.eq_of_beq_eq_true h.2⟩
  · cases h
theorem jcok_b {t c : Int} (h : jcok t c = true) : ∃ (t' c' : Nat) (rr : vw_C), t = 1000 + (t' : Int) ∧ t' < 1000 ∧ jEt t' = some (.object rr.1) ∧ c = (c' : Int) ∧ c' < 1000 ∧ jCl[c']? = some rr := by
  unfold jcok at h; split at h
  · rename_i E c' e
    split at h
    · rename_i rr hr
      rw [Bool.and_eq_true, decide_eq_true_iff] at h
      obtain ⟨t', h1, h2, h3⟩ := jak_b e
      refine ⟨t', c', rr, h1, h2, ?_, rfl, Nat.blt_eq.mp h.2, hr⟩
      rw [h3, h.1]
    · cases h
  · cases h
theorem jas_b {σ : jS} {t c a i v : Int} {k : jS → Option R} {q : R} (h : (jas σ t c a i v).bind k = some q) : 0 ≤ a ∧ jK σ a = t ∧ 0 ≤ i ∧ i < jN σ a ∧ (v = -1 ∨ 0 ≤ v ∧ jK σ v = c) ∧ k (jput σ a i v) = some q := by
  unfold jas at h; split at h
  · rename_i g; rw [jp_put g.2.1] at h; exact ⟨g.1, g.2.1, g.2.2.1, g.2.2.2.1, g.2.2.2.2, h⟩
  · cases h
theorem jbeq {n m : Nat} (h : Nat.beq n m = true) : n = m := Nat.eq_of_beq_eq_true h
theorem jcmp_z {q : Jvm.ClassFile.Cond} {z : Int} {off : Int} {tgt : Nat} (C : jC G X cc own nL ret d nm) (hd : decode cc pc = .ok (.ifCond q off, 3)) (ht : (pc : Int) + off = (tgt : Int)) {A B : Option R} (h : jcmp q z 0 A B = some x) (kt : A = some x → jWP G X nL tgt ls st σ σ' r) (kf : B = some x → jWP G X nL (pc + 3) ls st σ σ' r) : jWP G X nL pc ls ((0, z) :: st) σ σ' r := by
  cases q <;> dsimp only [jcmp] at h
  case eq => exact jr_if_eq C hd ht (fun e => kt (by rw [if_pos e] at h; exact h)) (fun e => kf (by rw [if_neg e] at h; exact h))
  case ne => exact jr_if_ne C hd ht (fun e => kt (by rw [if_neg e] at h; exact h)) (fun e => kf (by rw [if_pos e] at h; exact h))
  case lt => exact jr_if_lt C hd ht (fun e => kt (by rw [if_pos e] at h; exact h)) (fun e => kf (by rw [if_neg e] at h; exact h))
  case ge => exact jr_if_ge C hd ht (fun e => kt (by rw [if_neg (by omega)] at h; exact h)) (fun e => kf (by rw [if_pos (by omega)] at h; exact h))
  case gt => exact jr_if_gt C hd ht (fun e => kt (by rw [if_pos e] at h; exact h)) (fun e => kf (by rw [if_neg e] at h; exact h))
  case le => exact jr_if_le C hd ht (fun e => kt (by rw [if_neg (by omega)] at h; exact h)) (fun e => kf (by rw [if_pos (by omega)] at h; exact h))
theorem jcmp_i {q : Jvm.ClassFile.Cond} {y z : Int} {off : Int} {tgt : Nat} (C : jC G X cc own nL ret d nm) (hd : decode cc pc = .ok (.if_icmp q off, 3)) (ht : (pc : Int) + off = (tgt : Int)) {A B : Option R} (h : jcmp q z y A B = some x) (kt : A = some x → jWP G X nL tgt ls st σ σ' r) (kf : B = some x → jWP G X nL (pc + 3) ls st σ σ' r) : jWP G X nL pc ls ((0, y) :: (0, z) :: st) σ σ' r := by
  cases q <;> dsimp only [jcmp] at h
  case eq => exact jr_icmp_eq C hd ht (fun e => kt (by rw [if_pos e] at h; exact h)) (fun e => kf (by rw [if_neg e] at h; exact h))
  case ne => exact jr_icmp_ne C hd ht (fun e => kt (by rw [if_neg e] at h; exact h)) (fun e => kf (by rw [if_pos e] at h; exact h))
  case lt => exact jr_icmp_lt C hd ht (fun e => kt (by rw [if_pos e] at h; exact h)) (fun e => kf (by rw [if_neg e] at h; exact h))
  case ge => exact jr_icmp_ge C hd ht (fun e => kt (by rw [if_neg (by omega)] at h; exact h)) (fun e => kf (by rw [if_pos (by omega)] at h; exact h))
  case gt => exact jr_icmp_gt C hd ht (fun e => kt (by rw [if_pos e] at h; exact h)) (fun e => kf (by rw [if_neg e] at h; exact h))
  case le => exact jr_icmp_le C hd ht (fun e => kt (by rw [if_neg (by omega)] at h; exact h)) (fun e => kf (by rw [if_pos (by omega)] at h; exact h))

theorem jaT_b {ta c : Nat} (h : jaT ta c = true) : 1048576 ≤ ta ∧ jTk ta = (c : Int) := by
  unfold jaT at h
  rw [Bool.and_eq_true] at h
  have h1 := Nat.le_of_ble_eq_true h.1
  have h2 := jbeq h.2
  refine ⟨h1, ?_⟩
  unfold jTk
  rw [if_neg (by omega), ← h2]
  show (999 : Int) + ((ta / 1048576 % 64 : Nat) : Int) = ((999 + ta / 1048576 % 64 : Nat) : Int)
  omega
theorem jaL_b {ta : Nat} {a : Int} (h0 : 1048576 ≤ ta) (h : jTt σ ta a) : jaL σ ta a = jN σ a := by
  have := h.zz.2.2.2 h0
  unfold jaL
  split
  · rfl
  · rename_i g
    have g : ¬ ta % 1048576 = 0 := fun e => g (by show Nat.beq (ta % 1048576) 0 = true; rw [e]; rfl)
    rw [this (by omega)]
    unfold jTl
    show ((ta % 1048576 - 1 : Nat) : Int) = _
    omega
theorem jald_b {c : Int} {cN ta : Nat} {a i : Int} {k : Int → Option R} (h : jald c cN ta a i σ k = some x) (hc : c = (cN : Int)) (hT : jtk ty σ (ta, a)) : jrt ta = true ∧ 0 ≤ a ∧ jK σ a = c ∧ 0 ≤ i ∧ i < jN σ a ∧ k (jF σ a i) = some x := by
  unfold jald at h
  split at h
  · rename_i g
    obtain ⟨h1, h2, h3, h4, h5⟩ := jld_b h
    exact ⟨by unfold jrt; rw [g]; rfl, h1, h2, h3, h4, h5⟩
  · split at h
    · rename_i g
      obtain ⟨g1, g2⟩ := jaT_b g
      obtain ⟨h1, h2, h3⟩ := jlt_b h
      have ht := (hT (by show 16 ≤ ta; omega)).2
      rw [jaL_b g1 ht] at h2
      have hz := ht.zz
      have hK : jK σ a = c := by rw [hc, ← g2]; exact hz.2.2.1
      rw [jf_F hK] at h3
      exact ⟨by unfold jrt; rw [show Nat.ble 16 ta = true from Nat.ble_eq_true_of_le (by omega)]; simp, hz.1, hK, h1, h2, h3⟩
    · cases h
theorem jast_b {c : Int} {cN ta : Nat} {a i v : Int} {k : jS → Option R} (h : jast c cN ta a i v σ k = some x) (hc : c = (cN : Int)) (hT : jtk ty σ (ta, a)) : jrt ta = true ∧ 0 ≤ a ∧ jK σ a = c ∧ 0 ≤ i ∧ i < jN σ a ∧ k (jput σ a i v) = some x := by
  unfold jast at h
  split at h
  · rename_i g
    obtain ⟨h1, h2, h3, h4, h5⟩ := jsa_b h
    exact ⟨by unfold jrt; rw [g]; rfl, h1, h2, h3, h4, h5⟩
  · split at h
    · rename_i g
      obtain ⟨g1, g2⟩ := jaT_b g
      obtain ⟨h1, h2, h3⟩ := jst_b h
      have ht := (hT (by show 16 ≤ ta; omega)).2
      rw [jaL_b g1 ht] at h2
      have hz := ht.zz
      have hK : jK σ a = c := by rw [hc, ← g2]; exact hz.2.2.1
      rw [jp_put hK] at h3
      exact ⟨by unfold jrt; rw [show Nat.ble 16 ta = true from Nat.ble_eq_true_of_le (by omega)]; simp, hz.1, hK, h1, h2, h3⟩
    · cases h
theorem jrt_ty {ta c : Nat} (g : jaT ta c = true) : jrt ta = true := by
  unfold jrt; rw [show Nat.ble 16 ta = true from Nat.ble_eq_true_of_le (by have := (jaT_b g).1; omega)]; simp
theorem jrt_2 {ta : Nat} (g : Nat.beq ta 2 = true) : jrt ta = true := by unfold jrt; rw [g]; rfl
theorem jst_c {v : jT} {s : List jT} (h : ∀ w ∈ v :: s, jtk ty σ w) : jtk ty σ v ∧ ∀ w ∈ s, jtk ty σ w := List.forall_mem_cons.mp h
theorem jst_k {v : jT} {s : List jT} (h : v.1 < 16) (h' : ∀ w ∈ s, jtk ty σ w) : ∀ w ∈ v :: s, jtk ty σ w := List.forall_mem_cons.mpr ⟨jtk_lt h, h'⟩
theorem jst_e {σ1 : jS} {s : List jT} (h : ∀ w ∈ s, jtk ty σ w) (he : ty = true → jEx σ σ1) : ∀ w ∈ s, jtk ty σ1 w := fun w hw => (h w hw).ext he
/-- the loads and stores of an array of references, typed or not -/
theorem jaa_b {ta : Nat} {t a i : Int} {s : List jT} {kn : List jT → jS → Option R} {P : Prop} (hs : ∀ v ∈ (ta, a) :: s, jtk ty σ v)
    (h : (if Nat.beq ta 2 then (jld σ t a i).bind fun v => kn ((2, v) :: s) σ else if jaT ta t.toNat then (match jStA ta with
      | some q => (jix (jaL σ ta a) i (a + q.1 + q.2.1 * i)).bind fun v => kn ((q.2.2, v) :: s) σ
      | none => (jlt σ t a (jaL σ ta a) i).bind fun v => kn ((2, v) :: s) σ) else none) = some x) (ht : 0 ≤ t)
    (k : ∀ tv : Nat, jrt tv = true → jrt ta = true → 0 ≤ a → jK σ a = t → 0 ≤ i → i < jN σ a → (∀ v ∈ (tv, jF σ a i) :: s, jtk ty σ v) → kn ((tv, jF σ a i) :: s) σ = some x → P) : P := by
  have hs' := jst_c hs
  split at h
  · rename_i g
    obtain ⟨h1, h2, h3, h4, h5⟩ := jld_b h
    exact k 2 rfl (jrt_2 g) h1 h2 h3 h4 (jst_k (by show 2 < 16; decide) hs'.2) h5
  · split at h
    · rename_i g
      obtain ⟨g1, g2⟩ := jaT_b g
      have hh := hs'.1 (by show 16 ≤ ta; omega)
      have hK : jK σ a = t := by rw [hh.2.zz.2.2.1]; rw [g2]; omega
      split at h
      · rename_i q hq
        obtain ⟨h1, h2, h3⟩ := jix_b h
        rw [jaL_b g1 hh.2] at h2
        have hl : jN σ a = jTl ta := by
          refine hh.2.zz.2.2.2 g1 ?_
          unfold jStA at hq
          repeat' split at hq
          all_goals first | (cases hq; done) | (rename_i e; subst e; simp)
        obtain ⟨o, s0, t'⟩ := q
        have he := hh.2.elt hq h1 (by rw [← hl]; exact h2)
        have ht' : 16 ≤ t' := by
          unfold jStA at hq
          repeat' split at hq
          all_goals first | (cases hq; done) | (cases hq; decide)
        dsimp only at h3
        rw [← he.1] at h3 he
        exact k t' (by unfold jrt; rw [show Nat.ble 16 t' = true from Nat.ble_eq_true_of_le ht']; simp) (jrt_ty g) hh.2.zz.1 hK h1 h2 (List.forall_mem_cons.mpr ⟨fun _ => ⟨hh.1, he.2⟩, hs'.2⟩) h3
      · obtain ⟨h1, h2, h3⟩ := jlt_b h
        rw [jaL_b g1 hh.2] at h2
        rw [jf_F hK] at h3
        exact k 2 rfl (jrt_ty g) hh.2.zz.1 hK h1 h2 (jst_k (by show 2 < 16; decide) hs'.2) h3
    · cases h
theorem jao_b {ta tv : Nat} {t c a i v : Int} {k : jS → Option R} (h : (if Nat.beq ta 2 then (jas σ t c a i v).bind k else if jaT ta t.toNat then (if Nat.beq tv (16 + c.toNat) then (jst σ t a (jaL σ ta a) i v).bind k else (jav σ c v).bind fun v => (jst σ t a (jaL σ ta a) i v).bind k) else none) = some x) (ht : 0 ≤ t) (hc : 0 ≤ c ∧ c < 1000) (hT : jtk ty σ (ta, a)) (hV : jtk ty σ (tv, v)) :
    jrt ta = true ∧ 0 ≤ a ∧ jK σ a = t ∧ 0 ≤ i ∧ i < jN σ a ∧ (v = -1 ∨ 0 ≤ v ∧ jK σ v = c) ∧ k (jput σ a i v) = some x := by
  split at h
  · rename_i g
    obtain ⟨h1, h2, h3, h4, h5, h6⟩ := jas_b h
    exact ⟨jrt_2 g, h1, h2, h3, h4, h5, h6⟩
  · split at h
    · rename_i g
      obtain ⟨g1, g2⟩ := jaT_b g
      have hh := hT (by show 16 ≤ ta; omega)
      have hK : jK σ a = t := by rw [hh.2.zz.2.2.1]; rw [g2]; omega
      split at h
      · rename_i g'
        have e := jbeq g'
        obtain ⟨h1, h2, h3⟩ := jst_b h
        rw [jaL_b g1 hh.2] at h2
        rw [jp_put hK] at h3
        have hv := (hV (by show 16 ≤ tv; omega)).2.zz
        refine ⟨jrt_ty g, hh.2.zz.1, hK, h1, h2, .inr ⟨hv.1, ?_⟩, h3⟩
        rw [hv.2.2.1, e]
        unfold jTk
        rw [if_pos (by omega)]
        omega
      · unfold jav at h; split at h
        · rename_i gv
          obtain ⟨h1, h2, h3⟩ := jst_b h
          rw [jaL_b g1 hh.2] at h2
          rw [jp_put hK] at h3
          exact ⟨jrt_ty g, hh.2.zz.1, hK, h1, h2, gv, h3⟩
        · cases h
    · cases h
theorem jcmp_or {q : Jvm.ClassFile.Cond} {y z : Int} {A B : Option R} (h : jcmp q y z A B = some x) : A = some x ∨ B = some x := by
  cases q <;> dsimp only [jcmp] at h <;> split at h <;> first | exact .inl h | exact .inr h

theorem jctl_1 {n : Nat} {t c : Int} {I : Instr} (C : jC G X cc own nL ret d nm) (hd : decode cc pc = .ok (I, n)) (hrt : jrtOk rt ret) (hs : ∀ v ∈ st, jtk ty σ v)
    (hkn : ∀ st1 σ1, (wr = false → σ1 = σ) → (ty = true → jEx σ σ1) → (∀ v ∈ st1, jtk ty σ1 v) → kn st1 σ1 = some x → jWP G X nL (pc + n) lr (jgs st1) σ1 σ' r) (hkj : ∀ (q : Nat) st1, (∀ v ∈ st1, jtk ty σ v) → kj q st1 σ = some x → jWP G X nL q lr (jgs st1) σ σ' r) (hmk : ∀ v, mk σ v = some x → σ = σ' ∧ v = r)
    (h : jctl wr ty rt mk kn kj pc n t c I st σ = some x) : jWP G X nL pc lr (jgs st) σ σ' r := by
  cases I <;> first | (cases h; done) | skip
  case idiv =>
    dsimp only [jctl] at h
    split at h
    · split at h
      · rename_i g
        have := jbeq g; subst this
        obtain ⟨h1, h2⟩ := jdv_b h
        have k := hkn _ _ (fun _ => rfl) (fun _ => jEx.rfl) (jst_k (by simp) (jst_c (jst_c hs).2).2) h2
        rw [I_div_eq] at k
        exact jr_idiv C hd h1 k
      · cases h
    · cases h
  case irem =>
    dsimp only [jctl] at h
    split at h
    · split at h
      · rename_i g
        have := jbeq g; subst this
        obtain ⟨h1, h2⟩ := jdv_b h
        have k := hkn _ _ (fun _ => rfl) (fun _ => jEx.rfl) (jst_k (by simp) (jst_c (jst_c hs).2).2) h2
        rw [I_rem_eq] at k
        exact jr_irem C hd h1 k
      · cases h
    · cases h
  case ldiv =>
    dsimp only [jctl] at h
    split at h
    · split at h
      · rename_i g
        have := jbeq g; subst this
        obtain ⟨h1, h2⟩ := jdv_b h
        have k := hkn _ _ (fun _ => rfl) (fun _ => jEx.rfl) (jst_k (by simp) (jst_c (jst_c hs).2).2) h2
        rw [L_div_eq] at k
        exact jr_ldiv C hd h1 k
      · cases h
    · cases h
  case lrem =>
    dsimp only [jctl] at h
    split at h
    · split at h
      · rename_i g
        have := jbeq g; subst this
        obtain ⟨h1, h2⟩ := jdv_b h
        have k := hkn _ _ (fun _ => rfl) (fun _ => jEx.rfl) (jst_k (by simp) (jst_c (jst_c hs).2).2) h2
        rw [L_rem_eq] at k
        exact jr_lrem C hd h1 k
      · cases h
    · cases h
  case iaload =>
    dsimp only [jctl] at h
    split at h
    · split at h
      · rename_i g
        have hs' := jst_c (jst_c hs).2
        have := jbeq g; subst this
        split at h
        · split at h
          · rename_i g'
            obtain ⟨h1, h2, h3, h4, h5⟩ := jldE_b h
            have k := hkn _ _ (fun _ => rfl) (fun _ => jEx.rfl) (jst_k (by simp) hs'.2) h5
            rw [jgs_c, jgs_c, jgm_rt (jrt_2 g')]
            exact jr_ialdE C hd h1 h2 h3 h4 k
          · cases h
        obtain ⟨hr, h1, h2, h3, h4, h5⟩ := jald_b (ty := ty) h rfl hs'.1
        have k := hkn _ _ (fun _ => rfl) (fun _ => jEx.rfl) (jst_k (by simp) hs'.2) h5
        rw [jgs_c, jgs_c, jgm_rt hr]
        exact jr_iald C hd h1 h2 h3 h4 k
      · cases h
    · cases h
  case saload =>
    dsimp only [jctl] at h
    split at h
    · split at h
      · rename_i g
        have hs' := jst_c (jst_c hs).2
        have := jbeq g; subst this
        obtain ⟨hr, h1, h2, h3, h4, h5⟩ := jald_b (ty := ty) h rfl hs'.1
        have k := hkn _ _ (fun _ => rfl) (fun _ => jEx.rfl) (jst_k (by simp) hs'.2) h5
        rw [jgs_c, jgs_c, jgm_rt hr]
        exact jr_sald C hd h1 h2 h3 h4 k
      · cases h
    · cases h
  case laload =>
    dsimp only [jctl] at h
    split at h
    · split at h
      · rename_i g
        have hs' := jst_c (jst_c hs).2
        have := jbeq g; subst this
        obtain ⟨hr, h1, h2, h3, h4, h5⟩ := jald_b (ty := ty) h rfl hs'.1
        have k := hkn _ _ (fun _ => rfl) (fun _ => jEx.rfl) (jst_k (by simp) hs'.2) h5
        rw [jgs_c, jgs_c, jgm_rt hr]
        exact jr_lald C hd h1 h2 h3 h4 k
      · cases h
    · cases h
  case caload =>
    dsimp only [jctl] at h
    split at h
    · split at h
      · rename_i g
        have hs' := jst_c (jst_c hs).2
        have := jbeq g; subst this
        obtain ⟨hr, h1, h2, h3, h4, h5⟩ := jald_b (ty := ty) h rfl hs'.1
        have k := hkn _ _ (fun _ => rfl) (fun _ => jEx.rfl) (jst_k (by simp) hs'.2) h5
        rw [jgs_c, jgs_c, jgm_rt hr]
        exact jr_cald C hd h1 h2 h3 h4 k
      · cases h
    · cases h
  case baload =>
    dsimp only [jctl] at h
    split at h
    · split at h
      · rename_i g
        have hs' := jst_c (jst_c hs).2
        have := jbeq g; subst this
        split at h
        · split at h
          · rename_i g'
            obtain ⟨h1, h2, h3, h4, h5⟩ := jldE_b h
            have k := hkn _ _ (fun _ => rfl) (fun _ => jEx.rfl) (jst_k (by simp) hs'.2) h5
            rw [jgs_c, jgs_c, jgm_rt (jrt_2 g')]
            exact jr_baldE C hd h1 h2 h3 h4 k
          · cases h
        split at h
        · obtain ⟨hr, h1, h2, h3, h4, h5⟩ := jald_b (ty := ty) h rfl hs'.1
          have k := hkn _ _ (fun _ => rfl) (fun _ => jEx.rfl) (jst_k (by simp) hs'.2) h5
          rw [jgs_c, jgs_c, jgm_rt hr]
          exact jr_zald C hd h1 h2 h3 h4 k
        · obtain ⟨hr, h1, h2, h3, h4, h5⟩ := jald_b (ty := ty) h rfl hs'.1
          have k := hkn _ _ (fun _ => rfl) (fun _ => jEx.rfl) (jst_k (by simp) hs'.2) h5
          rw [jgs_c, jgs_c, jgm_rt hr]
          exact jr_bald C hd h1 h2 h3 h4 k
      · cases h
    · cases h
  case aaload =>
    dsimp only [jctl] at h
    split at h
    · split at h
      · rename_i g
        rw [Bool.and_eq_true] at g
        have := jbeq g.1; subst this
        obtain ⟨t', ty0, rfl, e2, e3, e4, e5⟩ := jarf_b g.2
        refine jaa_b (jst_c hs).2 h (by omega) fun tv hv hr h1 h2 h3 h4 hk h5 => ?_
        have k := hkn _ _ (fun _ => rfl) (fun _ => jEx.rfl) hk h5
        rw [jgs_c, jgm_rt hv] at k
        rw [jgs_c, jgs_c, jgm_rt hr]
        exact jr_aald C t' e2 e3 e4 e5 hd h1 h2 h3 h4 k
      · cases h
    · cases h
  case arraylength =>
    dsimp only [jctl] at h
    split at h
    · split at h
      · split at h
        · rename_i g
          rw [Bool.and_eq_true] at g
          have := jbeq g.1; subst this
          obtain ⟨h1, h2, h3⟩ := jlnE_b h
          have k := hkn _ _ (fun _ => rfl) (fun _ => jEx.rfl) (jst_k (by simp) (jst_c hs).2) h3
          rw [jgs_c, jgm_rt (jrt_2 g.2)]
          exact jr_alenE C 0 (by decide) rfl hd h1 h2 k
        · cases h
      split at h
      · split at h
        · rename_i g
          rw [Bool.and_eq_true] at g
          have := jbeq g.1; subst this
          obtain ⟨h1, h2, h3⟩ := jlnE_b h
          have k := hkn _ _ (fun _ => rfl) (fun _ => jEx.rfl) (jst_k (by simp) (jst_c hs).2) h3
          rw [jgs_c, jgm_rt (jrt_2 g.2)]
          exact jr_alenE C 1 (by decide) rfl hd h1 h2 k
        · cases h
      split at h
      · rename_i g
        rw [Bool.and_eq_true] at g
        have := jbeq g.1; subst this
        obtain ⟨ty0, e0⟩ := Option.isSome_iff_exists.mp g.2
        obtain ⟨t', rfl, e2, e3⟩ := jak_b e0
        split at h
        · rename_i g'
          obtain ⟨h1, h2, h3⟩ := jln_b h
          have k := hkn _ _ (fun _ => rfl) (fun _ => jEx.rfl) (jst_k (by simp) (jst_c hs).2) h3
          rw [jgs_c, jgm_rt (jrt_2 g')]
          exact jr_alen C t' e2 e3 hd h1 h2 k
        · split at h
          · rename_i g'
            obtain ⟨g1, g2⟩ := jaT_b g'
            have hh := (jst_c hs).1 (by simp only; omega)
            rw [jaL_b g1 hh.2] at h
            have k := hkn _ _ (fun _ => rfl) (fun _ => jEx.rfl) (jst_k (by simp) (jst_c hs).2) h
            rw [jgs_c, jgm_rt (jrt_ty g')]
            exact jr_alen C t' e2 e3 hd hh.2.zz.1 (by rw [hh.2.zz.2.2.1]; show jTk _ = _; rw [g2]; omega) k
          · cases h
      · cases h
    · cases h
  case iastore =>
    dsimp only [jctl] at h
    split at h
    · split at h
      · rename_i g
        rw [Bool.and_eq_true] at g
        have := jbeq g.1; subst this
        have hw := g.2; subst hw
        have hs' := jst_c (jst_c (jst_c hs).2).2
        obtain ⟨hr, h1, h2, h3, h4, h5⟩ := jast_b (ty := ty) h rfl hs'.1
        have hS : ∀ i, jSs (jK σ _) i = false := fun i => by rw [h2]; rfl
        have k := hkn _ _ (fun e => nomatch e) (fun _ => jEx_put (hS _)) (jst_e hs'.2 fun _ => jEx_put (hS _)) h5
        rw [jgs_c, jgs_c, jgs_c, jgm_rt hr]
        exact jr_iast C hd h1 h2 h3 h4 k
      · cases h
    · cases h
  case sastore =>
    dsimp only [jctl] at h
    split at h
    · split at h
      · rename_i g
        rw [Bool.and_eq_true] at g
        have := jbeq g.1; subst this
        have hw := g.2; subst hw
        have hs' := jst_c (jst_c (jst_c hs).2).2
        obtain ⟨hr, h1, h2, h3, h4, h5⟩ := jast_b (ty := ty) h rfl hs'.1
        have hS : ∀ i, jSs (jK σ _) i = false := fun i => by rw [h2]; rfl
        have k := hkn _ _ (fun e => nomatch e) (fun _ => jEx_put (hS _)) (jst_e hs'.2 fun _ => jEx_put (hS _)) h5
        rw [W16_eq] at k
        rw [jgs_c, jgs_c, jgs_c, jgm_rt hr]
        exact jr_sast C hd h1 h2 h3 h4 k
      · cases h
    · cases h
  case lastore =>
    dsimp only [jctl] at h
    split at h
    · split at h
      · rename_i g
        rw [Bool.and_eq_true] at g
        have := jbeq g.1; subst this
        have hw := g.2; subst hw
        have hs' := jst_c (jst_c (jst_c hs).2).2
        obtain ⟨hr, h1, h2, h3, h4, h5⟩ := jast_b (ty := ty) h rfl hs'.1
        have hS : ∀ i, jSs (jK σ _) i = false := fun i => by rw [h2]; rfl
        have k := hkn _ _ (fun e => nomatch e) (fun _ => jEx_put (hS _)) (jst_e hs'.2 fun _ => jEx_put (hS _)) h5
        rw [jgs_c, jgs_c, jgs_c, jgm_rt hr]
        exact jr_last C hd h1 h2 h3 h4 k
      · cases h
    · cases h
  case bastore =>
    dsimp only [jctl] at h
    split at h
    · split at h
      · rename_i g
        rw [Bool.and_eq_true] at g
        have := jbeq g.1; subst this
        have hw := g.2; subst hw
        have hs' := jst_c (jst_c (jst_c hs).2).2
        split at h
        · obtain ⟨hr, h1, h2, h3, h4, h5⟩ := jast_b (ty := ty) h rfl hs'.1
          have hS : ∀ i, jSs (jK σ _) i = false := fun i => by rw [h2]; rfl
          have k := hkn _ _ (fun e => nomatch e) (fun _ => jEx_put (hS _)) (jst_e hs'.2 fun _ => jEx_put (hS _)) h5
          rw [Wz_eq] at k
          rw [jgs_c, jgs_c, jgs_c, jgm_rt hr]
          exact jr_zast C hd h1 h2 h3 h4 k
        · obtain ⟨hr, h1, h2, h3, h4, h5⟩ := jast_b (ty := ty) h rfl hs'.1
          have hS : ∀ i, jSs (jK σ _) i = false := fun i => by rw [h2]; rfl
          have k := hkn _ _ (fun e => nomatch e) (fun _ => jEx_put (hS _)) (jst_e hs'.2 fun _ => jEx_put (hS _)) h5
          rw [W8_eq] at k
          rw [jgs_c, jgs_c, jgs_c, jgm_rt hr]
          exact jr_bast C hd h1 h2 h3 h4 k
      · cases h
    · cases h
  case aastore =>
    dsimp only [jctl] at h
    split at h
    · split at h
      · split at h
        · rename_i g
          rw [Bool.and_eq_true, Bool.and_eq_true, Bool.and_eq_true, Bool.and_eq_true, Bool.and_eq_true, Bool.and_eq_true] at g
          obtain ⟨⟨⟨⟨⟨⟨ga, gb⟩, gd⟩, ge⟩, gr⟩, gt⟩, gn⟩ := g
          have := jbeq ga; subst this
          subst gb
          have gt := of_decide_eq_true gt
          obtain ⟨k0, hk0⟩ : ∃ k0, k0 ∈ (jAl c).2 := by
            cases hL : (jAl c).2 with
            | nil => rw [hL] at gn; cases gn
            | cons b bs => exact ⟨b, List.mem_cons_self⟩
          obtain ⟨t', c', E, rr, e1, e2, e3, e4, e5, e6, e7⟩ := jAl_ok hk0
          have hs' := jst_c (jst_c (jst_c hs).2).2
          obtain ⟨h1, h2, h3, h4, hv, h5⟩ := jasL_b h
          have hS : ty = true → ∀ i, jSs (jK σ _) i = false := fun e i => by
            rw [h2]
            rw [e] at gd
            simp only [Bool.not_true, Bool.false_or, Bool.not_eq_true'] at gd
            unfold jSs
            rw [if_neg (by omega)]
            exact gd
          have k := hkn _ _ (fun e => nomatch e) (fun e => jEx_put (hS e _)) (jst_e hs'.2 fun e => jEx_put (hS e _)) h5
          rw [jgs_c, jgs_c, jgs_c, jgm_rt gr, jgm_rt ge]
          rcases hv with rfl | ⟨hv0, hv1⟩
          · exact jr_aastN C t' e2 e3 hd h1 (by rw [h2, ← gt, e1]) h3 h4 k
          · obtain ⟨t2, c2, E2, r2, f1, f2, f3, f4, f5, f6, f7⟩ := jAl_ok hv1
            exact jr_aast C t2 c2 f2 f3 f6 (Or.inr f7) hd h1 (by rw [h2, ← gt, f1]) h3 h4 hv0 f4 f5 k
        · cases h
      · split at h
        · rename_i g
          rw [Bool.and_eq_true, Bool.and_eq_true, Bool.and_eq_true, Bool.and_eq_true] at g
          obtain ⟨⟨⟨⟨ga, gb⟩, gc⟩, gd⟩, ge⟩ := g
          have := jbeq ga; subst this
          subst gb
          obtain ⟨t', c', rr, rfl, e2, e3, rfl, e5, e6⟩ := jcok_b gc
          have hv := (jst_c hs).1
          have hs' := jst_c (jst_c (jst_c hs).2).2
          obtain ⟨hr, h1, h2, h3, h4, hv, h5⟩ := jao_b (ty := ty) h (by omega) ⟨by omega, by omega⟩ hs'.1 hv
          have hS : ty = true → ∀ i, jSs (jK σ _) i = false := fun e i => by
            rw [h2]
            rw [e] at gd
            simp only [Bool.not_true, Bool.false_or, Bool.not_eq_true'] at gd
            unfold jSs
            rw [if_neg (by omega)]
            exact gd
          have k := hkn _ _ (fun e => nomatch e) (fun e => jEx_put (hS e _)) (jst_e hs'.2 fun e => jEx_put (hS e _)) h5
          rw [jgs_c, jgs_c, jgs_c, jgm_rt hr, jgm_rt ge]
          rcases hv with rfl | ⟨hv0, hv1⟩
          · exact jr_aastN C t' e2 e3 hd h1 h2 h3 h4 k
          · exact jr_aast C t' c' e2 e3 e6 (Or.inl rfl) hd h1 h2 h3 h4 hv0 hv1 e5 k
        · cases h
    · cases h
  case ireturn =>
    dsimp only [jctl] at h
    split at h
    · split at h
      · rename_i g
        have := jbeq g; subst this
        split at h
        · obtain ⟨rfl, rfl⟩ := hmk _ h
          cases hrt; exact jr_ireturn C hd
        · obtain ⟨rfl, rfl⟩ := hmk _ h
          cases hrt; rw [Wz_eq]; exact jr_zreturn C hd
        · obtain ⟨rfl, rfl⟩ := hmk _ h
          cases hrt; rw [Wc_eq]; exact jr_creturn C hd
        · obtain ⟨rfl, rfl⟩ := hmk _ h
          cases hrt; rw [W8_eq]; exact jr_breturn C hd
        · cases h
      · cases h
    · cases h
  case lreturn =>
    dsimp only [jctl] at h
    split at h
    · split at h
      · rename_i g
        rw [Bool.and_eq_true] at g
        have := jbeq g.1; subst this; have := jbeq g.2; subst this
        obtain ⟨rfl, rfl⟩ := hmk _ h
        cases hrt; exact jr_lreturn C hd
      · cases h
    · cases h
  case areturn =>
    dsimp only [jctl] at h
    split at h
    · split at h
      · rename_i g
        rw [Bool.and_eq_true, Bool.and_eq_true] at g
        have := jbeq g.1.1; subst this; have := jbeq g.1.2; subst this
        obtain ⟨rfl, rfl⟩ := hmk _ h
        rw [jgs_c, jgm_rt g.2]
        obtain ⟨ty0, rfl, hty⟩ := hrt; exact jr_areturn C hty hd
      · cases h
    · cases h
  case return_ =>
    dsimp only [jctl] at h
    split at h
    · split at h
      · rename_i g
        rw [Bool.and_eq_true] at g
        have := jbeq g.1; subst this; have := jbeq g.2; subst this
        obtain ⟨rfl, rfl⟩ := hmk _ h
        cases hrt; exact jr_vreturn C hd
      · cases h
    · cases h
  case goto o =>
    dsimp only [jctl] at h
    split at h
    · rename_i g; have := jbeq g; subst this
      obtain ⟨p, e, k⟩ := jto_b h
      exact jr_goto C hd e (hkj _ _ hs k)
    · cases h
  case ifCond q o =>
    dsimp only [jctl] at h
    split at h
    · split at h
      · rename_i g
        have hs' := jst_c hs
        have := jbeq g; subst this
        obtain ⟨p, ht, h⟩ := jto_b h
        exact jcmp_z C hd ht h (fun e => hkj _ _ hs'.2 e) (fun e => hkn _ _ (fun _ => rfl) (fun _ => jEx.rfl) hs'.2 e)
      · cases h
    · cases h
  case if_icmp q o =>
    dsimp only [jctl] at h
    split at h
    · split at h
      · rename_i g
        have hs' := jst_c (jst_c hs).2
        have := jbeq g; subst this
        obtain ⟨p, ht, h⟩ := jto_b h
        exact jcmp_i C hd ht h (fun e => hkj _ _ hs'.2 e) (fun e => hkn _ _ (fun _ => rfl) (fun _ => jEx.rfl) hs'.2 e)
      · cases h
    · cases h
  case if_acmp q o =>
    dsimp only [jctl] at h
    split at h
    · split at h
      · rename_i g
        rw [Bool.and_eq_true, Bool.and_eq_true] at g
        have hs' := jst_c (jst_c hs).2
        have := jbeq g.1.1; subst this
        obtain ⟨p, ht, h⟩ := jto_b h
        rw [jgs_c, jgs_c, jgm_rt g.2, jgm_rt g.1.2]
        cases q
        case eq => exact jr_acmp_eq C hd ht (fun e => hkj _ _ hs'.2 (by dsimp only at h; rw [if_pos e] at h; exact h)) (fun e => hkn _ _ (fun _ => rfl) (fun _ => jEx.rfl) hs'.2 (by dsimp only at h; rw [if_neg e] at h; exact h))
        case ne => exact jr_acmp_ne C hd ht (fun e => hkj _ _ hs'.2 (by dsimp only at h; rw [if_neg e] at h; exact h)) (fun e => hkn _ _ (fun _ => rfl) (fun _ => jEx.rfl) hs'.2 (by dsimp only at h; rw [if_pos e] at h; exact h))
      · cases h
    · cases h
  case ifnull o =>
    dsimp only [jctl] at h
    split at h
    · split at h
      · rename_i g
        rw [Bool.and_eq_true] at g
        have hs' := jst_c hs
        have := jbeq g.1; subst this
        obtain ⟨p, ht, h⟩ := jto_b h
        rw [jgs_c, jgm_rt g.2]
        exact jr_ifnull C hd ht (fun e => hkj _ _ hs'.2 (by rw [if_pos e] at h; exact h)) (fun e => hkn _ _ (fun _ => rfl) (fun _ => jEx.rfl) hs'.2 (by rw [if_neg e] at h; exact h))
      · cases h
    · cases h
  case ifnonnull o =>
    dsimp only [jctl] at h
    split at h
    · split at h
      · rename_i g
        rw [Bool.and_eq_true] at g
        have hs' := jst_c hs
        have := jbeq g.1; subst this
        obtain ⟨p, ht, h⟩ := jto_b h
        rw [jgs_c, jgm_rt g.2]
        exact jr_ifnonnull C hd ht (fun e => hkj _ _ hs'.2 (by rw [if_neg (by omega)] at h; exact h)) (fun e => hkn _ _ (fun _ => rfl) (fun _ => jEx.rfl) hs'.2 (by rw [if_pos (by omega)] at h; exact h))
      · cases h
    · cases h
  case tableswitch d0 lo hi os =>
    dsimp only [jctl] at h
    split at h
    · split at h
      · rename_i z s g
        have hs' := jst_c hs
        rcases @jtsw_in _ (fun o => jto pc o fun p => kj p s σ) z os.toList lo (jto pc d0 fun p => kj p s σ) with ⟨o, h1, h2, h3⟩ | ⟨h1, h2⟩
        · rw [h3] at h
          obtain ⟨p, ht, h⟩ := jto_b h
          have hlen := List.getElem?_eq_some_iff.mp h1 |>.1
          exact jr_tableIn C hd h2 (by omega) (by simpa using h1) ht (hkj _ _ hs'.2 h)
        · rw [h2] at h
          obtain ⟨p, ht, h⟩ := jto_b h
          exact jr_tableOut C hd (by omega) ht (hkj _ _ hs'.2 h)
      · cases h
    · cases h
  case lookupswitch d0 ps =>
    dsimp only [jctl] at h
    split at h
    · split at h
      · rename_i z s g
        have hs' := jst_c hs
        rw [@jlsw_eq _ (fun o => jto pc o fun p => kj p s σ)] at h
        obtain ⟨p, ht, h⟩ := jto_b h
        exact jr_lookup C hd g rfl ht (hkj _ _ hs'.2 h)
      · cases h
    · cases h

theorem jctl_2 {n : Nat} {t c : Int} {I : Instr} {P : Prop} (hs : ∀ v ∈ st, jtk ty σ v)
    (hkn : ∀ st1 σ1, (wr = false → σ1 = σ) → (ty = true → jEx σ σ1) → (∀ v ∈ st1, jtk ty σ1 v) → kn st1 σ1 = some x → P) (hkj : ∀ (q : Nat) st1, (∀ v ∈ st1, jtk ty σ v) → kj q st1 σ = some x → P) (hmk : ∀ v, mk σ v = some x → P)
    (h : jctl wr ty rt mk kn kj pc n t c I st σ = some x) : P := by
  cases I <;> first | (cases h; done) | skip
  case idiv =>
    dsimp only [jctl] at h
    split at h
    · split at h
      · rename_i g
        skip
        obtain ⟨h1, h2⟩ := jdv_b h
        have k := hkn _ _ (fun _ => rfl) (fun _ => jEx.rfl) (jst_k (by simp) (jst_c (jst_c hs).2).2) h2
        exact k
      · cases h
    · cases h
  case irem =>
    dsimp only [jctl] at h
    split at h
    · split at h
      · rename_i g
        skip
        obtain ⟨h1, h2⟩ := jdv_b h
        have k := hkn _ _ (fun _ => rfl) (fun _ => jEx.rfl) (jst_k (by simp) (jst_c (jst_c hs).2).2) h2
        exact k
      · cases h
    · cases h
  case ldiv =>
    dsimp only [jctl] at h
    split at h
    · split at h
      · rename_i g
        skip
        obtain ⟨h1, h2⟩ := jdv_b h
        have k := hkn _ _ (fun _ => rfl) (fun _ => jEx.rfl) (jst_k (by simp) (jst_c (jst_c hs).2).2) h2
        exact k
      · cases h
    · cases h
  case lrem =>
    dsimp only [jctl] at h
    split at h
    · split at h
      · rename_i g
        skip
        obtain ⟨h1, h2⟩ := jdv_b h
        have k := hkn _ _ (fun _ => rfl) (fun _ => jEx.rfl) (jst_k (by simp) (jst_c (jst_c hs).2).2) h2
        exact k
      · cases h
    · cases h
  case iaload =>
    dsimp only [jctl] at h
    split at h
    · split at h
      · rename_i g
        have hs' := jst_c (jst_c hs).2
        split at h
        · split at h
          · obtain ⟨h1, h2, h3, h4, h5⟩ := jldE_b h
            exact hkn _ _ (fun _ => rfl) (fun _ => jEx.rfl) (jst_k (by simp) hs'.2) h5
          · cases h
        skip
        obtain ⟨hr, h1, h2, h3, h4, h5⟩ := jald_b (ty := ty) h rfl hs'.1
        have k := hkn _ _ (fun _ => rfl) (fun _ => jEx.rfl) (jst_k (by simp) hs'.2) h5
        exact k
      · cases h
    · cases h
  case saload =>
    dsimp only [jctl] at h
    split at h
    · split at h
      · rename_i g
        have hs' := jst_c (jst_c hs).2
        skip
        obtain ⟨hr, h1, h2, h3, h4, h5⟩ := jald_b (ty := ty) h rfl hs'.1
        have k := hkn _ _ (fun _ => rfl) (fun _ => jEx.rfl) (jst_k (by simp) hs'.2) h5
        exact k
      · cases h
    · cases h
  case laload =>
    dsimp only [jctl] at h
    split at h
    · split at h
      · rename_i g
        have hs' := jst_c (jst_c hs).2
        skip
        obtain ⟨hr, h1, h2, h3, h4, h5⟩ := jald_b (ty := ty) h rfl hs'.1
        have k := hkn _ _ (fun _ => rfl) (fun _ => jEx.rfl) (jst_k (by simp) hs'.2) h5
        exact k
      · cases h
    · cases h
  case caload =>
    dsimp only [jctl] at h
    split at h
    · split at h
      · rename_i g
        have hs' := jst_c (jst_c hs).2
        skip
        obtain ⟨hr, h1, h2, h3, h4, h5⟩ := jald_b (ty := ty) h rfl hs'.1
        have k := hkn _ _ (fun _ => rfl) (fun _ => jEx.rfl) (jst_k (by simp) hs'.2) h5
        exact k
      · cases h
    · cases h
  case baload =>
    dsimp only [jctl] at h
    split at h
    · split at h
      · rename_i g
        have hs' := jst_c (jst_c hs).2
        split at h
        · split at h
          · obtain ⟨h1, h2, h3, h4, h5⟩ := jldE_b h
            exact hkn _ _ (fun _ => rfl) (fun _ => jEx.rfl) (jst_k (by simp) hs'.2) h5
          · cases h
        split at h
        · obtain ⟨hr, h1, h2, h3, h4, h5⟩ := jald_b (ty := ty) h rfl hs'.1
          have k := hkn _ _ (fun _ => rfl) (fun _ => jEx.rfl) (jst_k (by simp) hs'.2) h5
          exact k
        · obtain ⟨hr, h1, h2, h3, h4, h5⟩ := jald_b (ty := ty) h rfl hs'.1
          have k := hkn _ _ (fun _ => rfl) (fun _ => jEx.rfl) (jst_k (by simp) hs'.2) h5
          exact k
      · cases h
    · cases h
  case aaload =>
    dsimp only [jctl] at h
    split at h
    · split at h
      · rename_i g
        rw [Bool.and_eq_true] at g
        skip
        obtain ⟨t', ty0, rfl, e2, e3, e4, e5⟩ := jarf_b g.2
        refine jaa_b (jst_c hs).2 h (by omega) fun tv hv hr h1 h2 h3 h4 hk h5 => ?_
        have k := hkn _ _ (fun _ => rfl) (fun _ => jEx.rfl) hk h5
        exact k
      · cases h
    · cases h
  case arraylength =>
    dsimp only [jctl] at h
    split at h
    · split at h
      · split at h
        · obtain ⟨h1, h2, h3⟩ := jlnE_b h
          exact hkn _ _ (fun _ => rfl) (fun _ => jEx.rfl) (jst_k (by simp) (jst_c hs).2) h3
        · cases h
      split at h
      · split at h
        · obtain ⟨h1, h2, h3⟩ := jlnE_b h
          exact hkn _ _ (fun _ => rfl) (fun _ => jEx.rfl) (jst_k (by simp) (jst_c hs).2) h3
        · cases h
      split at h
      · rename_i g
        rw [Bool.and_eq_true] at g
        obtain ⟨ty0, e0⟩ := Option.isSome_iff_exists.mp g.2
        obtain ⟨t', rfl, e2, e3⟩ := jak_b e0
        split at h
        · rename_i g'
          obtain ⟨h1, h2, h3⟩ := jln_b h
          have k := hkn _ _ (fun _ => rfl) (fun _ => jEx.rfl) (jst_k (by simp) (jst_c hs).2) h3
          exact k
        · split at h
          · rename_i g'
            obtain ⟨g1, g2⟩ := jaT_b g'
            have hh := (jst_c hs).1 (by simp only; omega)
            rw [jaL_b g1 hh.2] at h
            have k := hkn _ _ (fun _ => rfl) (fun _ => jEx.rfl) (jst_k (by simp) (jst_c hs).2) h
            exact k
          · cases h
      · cases h
    · cases h
  case iastore =>
    dsimp only [jctl] at h
    split at h
    · split at h
      · rename_i g
        rw [Bool.and_eq_true] at g
        skip
        have hw := g.2; subst hw
        have hs' := jst_c (jst_c (jst_c hs).2).2
        obtain ⟨hr, h1, h2, h3, h4, h5⟩ := jast_b (ty := ty) h rfl hs'.1
        have hS : ∀ i, jSs (jK σ _) i = false := fun i => by rw [h2]; rfl
        have k := hkn _ _ (fun e => nomatch e) (fun _ => jEx_put (hS _)) (jst_e hs'.2 fun _ => jEx_put (hS _)) h5
        exact k
      · cases h
    · cases h
  case sastore =>
    dsimp only [jctl] at h
    split at h
    · split at h
      · rename_i g
        rw [Bool.and_eq_true] at g
        skip
        have hw := g.2; subst hw
        have hs' := jst_c (jst_c (jst_c hs).2).2
        obtain ⟨hr, h1, h2, h3, h4, h5⟩ := jast_b (ty := ty) h rfl hs'.1
        have hS : ∀ i, jSs (jK σ _) i = false := fun i => by rw [h2]; rfl
        have k := hkn _ _ (fun e => nomatch e) (fun _ => jEx_put (hS _)) (jst_e hs'.2 fun _ => jEx_put (hS _)) h5
        exact k
      · cases h
    · cases h
  case lastore =>
    dsimp only [jctl] at h
    split at h
    · split at h
      · rename_i g
        rw [Bool.and_eq_true] at g
        skip
        have hw := g.2; subst hw
        have hs' := jst_c (jst_c (jst_c hs).2).2
        obtain ⟨hr, h1, h2, h3, h4, h5⟩ := jast_b (ty := ty) h rfl hs'.1
        have hS : ∀ i, jSs (jK σ _) i = false := fun i => by rw [h2]; rfl
        have k := hkn _ _ (fun e => nomatch e) (fun _ => jEx_put (hS _)) (jst_e hs'.2 fun _ => jEx_put (hS _)) h5
        exact k
      · cases h
    · cases h
  case bastore =>
    dsimp only [jctl] at h
    split at h
    · split at h
      · rename_i g
        rw [Bool.and_eq_true] at g
        skip
        have hw := g.2; subst hw
        have hs' := jst_c (jst_c (jst_c hs).2).2
        split at h
        · obtain ⟨hr, h1, h2, h3, h4, h5⟩ := jast_b (ty := ty) h rfl hs'.1
          have hS : ∀ i, jSs (jK σ _) i = false := fun i => by rw [h2]; rfl
          have k := hkn _ _ (fun e => nomatch e) (fun _ => jEx_put (hS _)) (jst_e hs'.2 fun _ => jEx_put (hS _)) h5
          exact k
        · obtain ⟨hr, h1, h2, h3, h4, h5⟩ := jast_b (ty := ty) h rfl hs'.1
          have hS : ∀ i, jSs (jK σ _) i = false := fun i => by rw [h2]; rfl
          have k := hkn _ _ (fun e => nomatch e) (fun _ => jEx_put (hS _)) (jst_e hs'.2 fun _ => jEx_put (hS _)) h5
          exact k
      · cases h
    · cases h
  case aastore =>
    dsimp only [jctl] at h
    split at h
    · split at h
      · split at h
        · rename_i g
          rw [Bool.and_eq_true, Bool.and_eq_true, Bool.and_eq_true, Bool.and_eq_true, Bool.and_eq_true, Bool.and_eq_true] at g
          obtain ⟨⟨⟨⟨⟨⟨ga, gb⟩, gd⟩, ge⟩, gr⟩, gt⟩, gn⟩ := g
          have := jbeq ga; subst this
          subst gb
          have gt := of_decide_eq_true gt
          obtain ⟨k0, hk0⟩ : ∃ k0, k0 ∈ (jAl c).2 := by
            cases hL : (jAl c).2 with
            | nil => rw [hL] at gn; cases gn
            | cons b bs => exact ⟨b, List.mem_cons_self⟩
          obtain ⟨t', c', E, rr, e1, e2, e3, e4, e5, e6, e7⟩ := jAl_ok hk0
          have hs' := jst_c (jst_c (jst_c hs).2).2
          obtain ⟨h1, h2, h3, h4, hv, h5⟩ := jasL_b h
          have hS : ty = true → ∀ i, jSs (jK σ _) i = false := fun e i => by
            rw [h2]
            rw [e] at gd
            simp only [Bool.not_true, Bool.false_or, Bool.not_eq_true'] at gd
            unfold jSs
            rw [if_neg (by omega)]
            exact gd
          have k := hkn _ _ (fun e => nomatch e) (fun e => jEx_put (hS e _)) (jst_e hs'.2 fun e => jEx_put (hS e _)) h5
          exact k
        · cases h
      · split at h
        · rename_i g
          rw [Bool.and_eq_true, Bool.and_eq_true, Bool.and_eq_true, Bool.and_eq_true] at g
          obtain ⟨⟨⟨⟨ga, gb⟩, gc⟩, gd⟩, ge⟩ := g
          skip
          subst gb
          obtain ⟨t', c', rr, rfl, e2, e3, rfl, e5, e6⟩ := jcok_b gc
          have hv := (jst_c hs).1
          have hs' := jst_c (jst_c (jst_c hs).2).2
          obtain ⟨hr, h1, h2, h3, h4, hv, h5⟩ := jao_b (ty := ty) h (by omega) ⟨by omega, by omega⟩ hs'.1 hv
          have hS : ty = true → ∀ i, jSs (jK σ _) i = false := fun e i => by
            rw [h2]
            rw [e] at gd
            simp only [Bool.not_true, Bool.false_or, Bool.not_eq_true'] at gd
            unfold jSs
            rw [if_neg (by omega)]
            exact gd
          have k := hkn _ _ (fun e => nomatch e) (fun e => jEx_put (hS e _)) (jst_e hs'.2 fun e => jEx_put (hS e _)) h5
          exact k
        · cases h
    · cases h
  case ireturn =>
    dsimp only [jctl] at h
    repeat' split at h
    all_goals first | exact hmk _ h | cases h
  case lreturn =>
    dsimp only [jctl] at h
    repeat' split at h
    all_goals first | exact hmk _ h | cases h
  case areturn =>
    dsimp only [jctl] at h
    repeat' split at h
    all_goals first | exact hmk _ h | cases h
  case return_ =>
    dsimp only [jctl] at h
    repeat' split at h
    all_goals first | exact hmk _ h | cases h
  case goto o =>
    dsimp only [jctl] at h
    split at h
    · obtain ⟨p, e, k⟩ := jto_b h
      exact hkj _ _ hs k
    · cases h
  case ifCond q o =>
    dsimp only [jctl] at h
    split at h
    · split at h
      · obtain ⟨p, ht, h⟩ := jto_b h
        have hs' := jst_c hs
        rcases jcmp_or h with h | h
        · exact hkj _ _ hs'.2 h
        · exact hkn _ _ (fun _ => rfl) (fun _ => jEx.rfl) hs'.2 h
      · cases h
    · cases h
  case if_icmp q o =>
    dsimp only [jctl] at h
    split at h
    · split at h
      · obtain ⟨p, ht, h⟩ := jto_b h
        have hs' := jst_c (jst_c hs).2
        rcases jcmp_or h with h | h
        · exact hkj _ _ hs'.2 h
        · exact hkn _ _ (fun _ => rfl) (fun _ => jEx.rfl) hs'.2 h
      · cases h
    · cases h
  case if_acmp q o =>
    dsimp only [jctl] at h
    split at h
    · split at h
      · obtain ⟨p, ht, h⟩ := jto_b h
        have hs' := jst_c (jst_c hs).2
        cases q <;> dsimp only at h <;> split at h <;> first | exact hkj _ _ hs'.2 h | exact hkn _ _ (fun _ => rfl) (fun _ => jEx.rfl) hs'.2 h
      · cases h
    · cases h
  case ifnull o =>
    dsimp only [jctl] at h
    split at h
    · split at h
      · obtain ⟨p, ht, h⟩ := jto_b h
        have hs' := jst_c hs
        split at h <;> first | exact hkj _ _ hs'.2 h | exact hkn _ _ (fun _ => rfl) (fun _ => jEx.rfl) hs'.2 h
      · cases h
    · cases h
  case ifnonnull o =>
    dsimp only [jctl] at h
    split at h
    · split at h
      · obtain ⟨p, ht, h⟩ := jto_b h
        have hs' := jst_c hs
        split at h <;> first | exact hkj _ _ hs'.2 h | exact hkn _ _ (fun _ => rfl) (fun _ => jEx.rfl) hs'.2 h
      · cases h
    · cases h
  case tableswitch d0 lo hi os =>
    dsimp only [jctl] at h
    split at h
    · split at h
      · rename_i z s g
        have hs' := jst_c hs
        rcases @jtsw_in _ (fun o => jto pc o fun p => kj p s σ) z os.toList lo (jto pc d0 fun p => kj p s σ) with ⟨o, h1, h2, h3⟩ | ⟨h1, h2⟩
        · rw [h3] at h
          obtain ⟨p, ht, h⟩ := jto_b h
          exact hkj _ _ hs'.2 h
        · rw [h2] at h
          obtain ⟨p, ht, h⟩ := jto_b h
          exact hkj _ _ hs'.2 h
      · cases h
    · cases h
  case lookupswitch d0 ps =>
    dsimp only [jctl] at h
    split at h
    · split at h
      · rename_i z s g
        have hs' := jst_c hs
        rw [@jlsw_eq _ (fun o => jto pc o fun p => kj p s σ)] at h
        obtain ⟨p, ht, h⟩ := jto_b h
        exact hkj _ _ hs'.2 h
      · cases h
    · cases h

theorem jtop_ok {fl : Nat} {k : List jT → Option R} {x : R} (h : jtop fl st k = some x) : k st = some x := by
  unfold jtop at h; split at h
  · exact h
  · exact h
  · split at h
    · exact h
    · cases h
theorem jstep_1 {hs : jHs} {n fl : Nat} {t c : Int} {I : Instr} {E : jEs} {kn : List (Nat × jT) → List jT → jS → Option R} {kj : Nat → List (Nat × jT) → List jT → jS → Option R} (C : jC G X cc own nL ret d nm) (hH : jFl X.2.1 ∧ jHk G X nL hs) (hXl : X.2.1 = l) (hd : decode cc pc = .ok (I, n)) (hrt : jrtOk rt ret) (hE : ∀ q ∈ E, jKOk G l own d nm wr ty hs q) (hl : ∀ q ∈ ls, jtk ty σ q.2) (hsk : ∀ v ∈ st, jtk ty σ v)
    (hkn : ∀ ls1 st1 σ1, (wr = false → σ1 = σ) → (∀ q ∈ ls1, jtk ty σ1 q.2) → (∀ v ∈ st1, jtk ty σ1 v) → kn ls1 st1 σ1 = some x → jWP G X nL (pc + n) (jgl ls1) (jgs st1) σ1 σ' r) (hkj : ∀ (q : Nat) ls1 st1 σ1, (wr = false → σ1 = σ) → (∀ q ∈ ls1, jtk ty σ1 q.2) → (∀ v ∈ st1, jtk ty σ1 v) → kj q ls1 st1 σ1 = some x → jWP G X nL q (jgl ls1) (jgs st1) σ1 σ' r) (hmk : ∀ σ1 v, (wr = false → σ1 = σ) → mk σ1 v = some x → σ1 = σ' ∧ v = r)
    (h : jstep nL wr ty rt E mk kn kj pc n fl t c I ls st σ = some x) : jWP G X nL pc (jgl ls) (jgs st) σ σ' r := by
  unfold jstep at h
  split at h
  · rename_i q e
    split at h
    · rename_i g; have := jbeq g
      split at h
      · rename_i st' hf
        obtain ⟨m, f⟩ := q
        cases this
        obtain ⟨g1, g2⟩ := jpu_g e hf
        exact jpu_ok C hd e g1 (hkn _ _ _ (fun _ => rfl) hl (fun v hv => (g2 v hv).elim jtk_lt (hsk v)) (jtop_ok h))
      · cases h
    · cases h
  · split at h
    · rename_i q e
      split at h
      · rename_i g; have := jbeq g
        split at h
        · rename_i p hf
          obtain ⟨m, f⟩ := q
          cases this
          obtain ⟨g1, g2⟩ := jlo_g e hf (P := jtk ty σ) (fun v hv => jtk_lt hv) hl hsk
          exact jlo_ok C hd e hf (hkn _ _ _ (fun _ => rfl) g1 g2 h)
        · cases h
      · cases h
    · split at h
      · rename_i q e
        split at h
        · rename_i g; have := jbeq g
          split at h
          · rename_i w hf
            obtain ⟨m, f⟩ := q
            cases this
            exact (hE _ (jlk_mem hf)).1 I _ e X cc nL ret pc (jgl ls) st σ σ' r R mk _ _ x C hH hXl hd hsk h (fun st1 σ1 w he hs1 h => hkn _ _ _ w (fun q hq => (hl q hq).ext he) hs1 h) hmk (fun q st1 σ1 w he hs1 h => hkj _ _ _ _ w (fun q hq => (hl q hq).ext he) hs1 h)
          · cases h
        · cases h
      · exact jctl_1 C hd hrt hsk (fun st1 σ1 w he hs1 h => hkn _ _ _ w (fun q hq => (hl q hq).ext he) hs1 h) (fun q st1 hs1 h => hkj _ _ _ _ (fun _ => rfl) hl hs1 h) (fun v h => hmk _ v (fun _ => rfl) h) h
theorem jstep_2 {n fl : Nat} {t c : Int} {I : Instr} {E : jEs} {kn : List (Nat × jT) → List jT → jS → Option R} {kj : Nat → List (Nat × jT) → List jT → jS → Option R} {P : Prop} (hty : ty = true) (hE : ∀ q ∈ E, jSt2 wr ty q.2) (hl : ∀ q ∈ ls, jtk ty σ q.2) (hs : ∀ v ∈ st, jtk ty σ v)
    (hkn : ∀ ls1 st1 σ1, jEx σ σ1 → (wr = false → σ1 = σ) → (∀ q ∈ ls1, jtk ty σ1 q.2) → (∀ v ∈ st1, jtk ty σ1 v) → kn ls1 st1 σ1 = some x → P) (hkj : ∀ (q : Nat) ls1 st1 σ1, jEx σ σ1 → (wr = false → σ1 = σ) → (∀ q ∈ ls1, jtk ty σ1 q.2) → (∀ v ∈ st1, jtk ty σ1 v) → kj q ls1 st1 σ1 = some x → P) (hmk : ∀ σ1 v, jEx σ σ1 → (wr = false → σ1 = σ) → mk σ1 v = some x → P)
    (h : jstep nL wr ty rt E mk kn kj pc n fl t c I ls st σ = some x) : P := by
  unfold jstep at h
  split at h
  · rename_i q e
    split at h
    · split at h
      · rename_i st' hf
        obtain ⟨m, f⟩ := q
        obtain ⟨g1, g2⟩ := jpu_g e hf
        exact hkn _ _ _ jEx.rfl (fun _ => rfl) hl (fun v hv => (g2 v hv).elim jtk_lt (hs v)) (jtop_ok h)
      · cases h
    · cases h
  · split at h
    · rename_i q e
      split at h
      · split at h
        · rename_i p hf
          obtain ⟨m, f⟩ := q
          obtain ⟨g1, g2⟩ := jlo_g e hf (P := jtk ty σ) (fun v hv => jtk_lt hv) hl hs
          exact hkn _ _ _ jEx.rfl (fun _ => rfl) g1 g2 h
        · cases h
      · cases h
    · split at h
      · split at h
        · split at h
          · rename_i w hf
            exact hE _ (jlk_mem hf) hty R mk _ _ _ st σ x P hs h (fun st1 σ1 he w hs1 h => hkn _ _ _ he w (fun q hq => (hl q hq).ext fun _ => he) hs1 h) hmk (fun q st1 σ1 he w hs1 h => hkj _ _ _ _ he w (fun q hq => (hl q hq).ext fun _ => he) hs1 h)
          · cases h
        · cases h
      · exact jctl_2 hs (fun st1 σ1 w he hs1 h => hkn _ _ _ (he hty) w (fun q hq => (hl q hq).ext he) hs1 h) (fun q st1 hs1 h => hkj _ _ _ _ jEx.rfl (fun _ => rfl) hl hs1 h) (fun v h => hmk _ v jEx.rfl (fun _ => rfl) h) h
end jExec2
end
