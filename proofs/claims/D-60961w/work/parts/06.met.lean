/-! contracts: entry, return, call -/
def jRm (G : jG) (d : Nat) (σ : jS) : Room := { frames := d, cells := gN G - (jn σ).toNat, slots := gU G - (ju σ).toNat, locals := 64 * d }
def jMet (G : jG) (l : Launch) (d : Nat) (y : MethodName) (ws : List Cond) (As : List jT) (σ σ' : jS) (r : jT) : Prop :=
  MetFree l y (headSpec ws (jRm G d σ)) (fun a U => a = (As.map jv).toArray ∧ jRel G U σ U.heap) (fun _ _ _ _ _ => True) (fun _ st o t => (jout r o ∧ jRel G t σ' t.heap) ∧ jFr st t (gN G - st.heap.size) (gU G - jsum st.heap) (fun q => gb G ≤ q))
/-- a method does what a function says -/
def jM (G : jG) (l : Launch) (d : Nat) (y : MethodName) (ws : List Cond) (F : List jT → jS → jS → jT → Prop) : Prop :=
  jFl l → ∀ (As : List jT) (σ σ' : jS) (r : jT), (∀ v ∈ As, jok v) → F As σ σ' r → jMet G l d y ws As σ σ' r
theorem jRm_eq {G : jG} {d : Nat} {σ : jS} {s : State} (h : jRel G s σ s.heap) : jRm G d σ = { frames := d, cells := gN G - s.heap.size, slots := gU G - jsum s.heap, locals := 64 * d } := by
  unfold jRm
  rw [← h.1, ← h.2.1]
  rfl
/-- the locals at the entry -/
def jargs : Nat → List jT → List (Nat × jT)
  | _, [] => []
  | i, v :: vs => (i, v) :: jargs (if v.1 = 1 then i + 2 else i + 1) vs
theorem jargs_map : ∀ (vs : List jT) (i : Nat), (∀ v ∈ vs, jok v) → (jargs i vs).map (fun q => (q.1, jv q.2)) = lv_args i (vs.map jv)
  | [], _, _ => rfl
  | v :: vs, i, h => by
    rw [jall_cons] at h
    have hc := jcat h.1
    show (i, jv v) :: List.map _ (jargs _ vs) = _
    rw [jargs_map vs _ h.2]
    show _ = (i, jv v) :: lv_args (if (jv v).category = 2 then i + 2 else i + 1) (vs.map jv)
    congr 2
    by_cases h1 : v.1 = 1
    · have h2 : (jv v).category = 2 := by rw [h1] at hc; simpa using hc
      rw [if_pos h1, if_pos h2]
    · have h2 := jcat1 h.1 h1
      rw [if_neg h1, if_neg (by omega)]
theorem jargs_ok : ∀ (vs : List jT) (i : Nat), (∀ v ∈ vs, jok v) → ∀ q ∈ jargs i vs, jok q.2
  | [], _, _, q, hq => by cases hq
  | v :: vs, i, h, q, hq => by
    rw [jall_cons] at h
    rcases List.mem_cons.mp hq with rfl | hq
    · exact h.1
    · exact jargs_ok vs _ h.2 q hq
def jwords (vs : List jT) : Nat := (vs.map (fun v => if v.1 = 1 then 2 else 1)).sum
theorem jwords_sl : ∀ (vs : List jT), (∀ v ∈ vs, jok v) → (lg_sl (vs.map jv)).length = jwords vs
  | [], _ => rfl
  | v :: vs, h => by
    rw [jall_cons] at h
    have ih := jwords_sl vs h.2
    have hc := jcat h.1
    unfold jwords at ih ⊢
    rw [List.map_cons, List.map_cons, List.sum_cons, ← ih]
    by_cases h1 : v.1 = 1
    · have h2 : (jv v).category = 2 := by rw [h1] at hc; simpa using hc
      rw [if_pos h1]
      simp [lg_sl, h2]; omega
    · have h2 := jcat1 h.1 h1
      rw [if_neg h1]
      simp [lg_sl, h2]; omega
/-- from a walk of the body to the contract -/
theorem jM.ofW {G : jG} {l : Launch} {d nL : Nat} {y : MethodName} {cc : ByteArray} {ret : Option FieldType} {F : List jT → jS → jS → jT → Prop} (hy : plainName y.cls = true)
    (hw : ∀ (As : List jT) (σ σ' : jS) (r : jT), F As σ σ' r → jwords As ≤ nL)
    (body : ∀ (X : jX) (As : List jT) (σ σ' : jS) (r : jT), (∀ v ∈ As, jok v) → F As σ σ' r → X.2.1 = l → jC G X cc y.cls nL ret d y.name → jNoH X → jWP G X nL 0 (jargs 0 As) [] σ σ' r) : jM G l d y (ws_ y cc nL ret) F := by
  intro hfl As σ σ' r hAs hF
  refine MetFree.of_bodyS (code := cc) (maxLocals := nL) (ret := ret) hy ?_ ?_
  · intro args s m h hn
    obtain ⟨meth, c, h1, h2, h3, h4, h5, h6, -, -⟩ := Cond.code_spec hn (atoms_spec (ws := ws_ y cc nL ret) h _ List.mem_cons_self)
    exact ⟨meth, c, h1, h2, h3, h4, h5, h6⟩
  · intro p e s m args below meth c s₁ B hml hP _
    obtain ⟨rfl, hR⟩ := hP
    have hts := atoms_spec (ws := ws_ y cc nL ret) B.pre
    have hown : s.vm.findClass y.cls = some m.cls := findClass_of_methodNamed B.named
    have hnm : meth.name = y.name := (name_of_methodNamed B.named B.method).1
    have XX := Stand.of_body B
    have hh0 : s₁.heap = s.heap := by rw [B.state]; rfl
    have hE : c.exceptionTable = #[] := by
      obtain ⟨meth', c', h1, h2, -, -, -, -, h9, -⟩ := Cond.code_spec B.named (hts _ List.mem_cons_self)
      cases B.method.symm.trans h1
      cases XX.code.symm.trans h2
      simpa using h9
    have hC : jC G (p, l, e, (headSpec (ws_ y cc nL ret) (jRm G d σ)).room, s, m, (As.map jv).toArray, below, meth, c) cc y.cls nL ret d y.name :=
      ⟨B.exec, B.bytes, hml, hown, fun w h => hts w (List.mem_cons_of_mem _ h), B.notSynchronized, B.returns, (by have hrm := jRm_eq (d := d) hR; show _ ≤ (jRm G d σ).frames ∧ (jRm G d σ).cells = _ ∧ (jRm G d σ).slots = _ ∧ _ ≤ (jRm G d σ).locals; rw [hrm]; exact ⟨Nat.le_refl _, rfl, rfl, Nat.le_refl _⟩), hR.2.2.2.2.1.1, hR.2.2.2.2.2.1.1, ⟨hR.2.2.2.1, σ, hR⟩, hnm⟩
    have hW := body _ As σ σ' r hAs hF rfl hC ⟨hE, hfl⟩
    have hl := lv_entry (As.map jv) (n := nL) (by rw [jwords_sl As hAs]; exact hw As σ σ' r hF)
    have hk := hW s.heap [] _ hR ⟨fun _ h => absurd h List.not_mem_nil, Nat.le_refl _, Nat.le_refl _⟩ (fun _ h => absurd h List.not_mem_nil) (jargs_ok As 0 hAs) (by rw [jargs_map As 0 hAs]; exact hl)
    rw [Nat.sub_self, Nat.sub_self] at hk
    have hk' := hk
    rw [List.map_nil, ← lg_entry_eq] at hk'
    obtain ⟨t, a1, o, b1, b2, b3, b4⟩ := hk' s₁ hh0 XX
    exact ⟨t, o, a1, b1, b2, b3, b4⟩
section jRet
variable {G : jG} {X : jX} {cc : ByteArray} {own nm : String} {nL d pc : Nat} {ls : List (Nat × jT)} {σ : jS}
theorem jEnd_of {below : List Frame} {args : Array Value} {s : State} {σ' : jS} {r : jT} {k n : Nat} {t : State} (h1 : k ≤ gN G - s.heap.size) (h2 : n ≤ gU G - jsum s.heap) (h : MQ below (fun _ _ o t => jout r o ∧ jRel G t σ' t.heap) args s k n (fun q => gb G ≤ q) t) : jEnd G below s σ' r t := by
  obtain ⟨o, b1, b2, b3, L, ⟨-, b5, b6⟩, b7⟩ := h
  exact ⟨o, b1, b2, b3, b5, L, b6.mono h1 h2, b7⟩
theorem jr_ireturn {v : Int} (C : jC G X cc own nL (some .int) d nm) (hd : decode cc pc = .ok (.ireturn, 1)) : jWP G X nL pc ls [(0, v)] σ σ (0, v) := by
  obtain ⟨p, l, e, R, s, m, args, below, meth, c⟩ := X
  intro H locs la hR hL hs hl ha
  rw [jall_cons] at hs
  have hlk : meth.locks = false := C.2.2.2.2.2.1
  have hb := hR.2.2.2.2.1
  have hb2 := hR.2.2.2.2.2.1
  refine W.mono (fun t => jEnd_of (k := H.size - s.heap.size) (n := jsum H - jsum s.heap) (by omega) (by omega)) (W.iret C.1 C.2.1 C.2.2.2.2.2.2.1 (fun t ht hW => ⟨?_, ?_⟩) hL.1 hd)
  · exact ⟨rfl, hs.1⟩
  · rw [ht]; exact hR.moved hW
theorem jr_lreturn {v : Int} (C : jC G X cc own nL (some .long) d nm) (hd : decode cc pc = .ok (.lreturn, 1)) : jWP G X nL pc ls [(1, v)] σ σ (1, v) := by
  obtain ⟨p, l, e, R, s, m, args, below, meth, c⟩ := X
  intro H locs la hR hL hs hl ha
  rw [jall_cons] at hs
  have hlk : meth.locks = false := C.2.2.2.2.2.1
  have hb := hR.2.2.2.2.1
  have hb2 := hR.2.2.2.2.2.1
  refine W.mono (fun t => jEnd_of (k := H.size - s.heap.size) (n := jsum H - jsum s.heap) (by omega) (by omega)) (W.lret C.1 C.2.1 C.2.2.2.2.2.2.1 (fun t ht hW => ⟨?_, ?_⟩) hL.1 hd)
  · exact ⟨rfl, hs.1⟩
  · rw [ht]; exact hR.moved hW
theorem jr_vreturn (C : jC G X cc own nL none d nm) (hd : decode cc pc = .ok (.return_, 1)) : jWP G X nL pc ls [] σ σ (5, 0) := by
  obtain ⟨p, l, e, R, s, m, args, below, meth, c⟩ := X
  intro H locs la hR hL hs hl ha
  have hlk : meth.locks = false := C.2.2.2.2.2.1
  have hb := hR.2.2.2.2.1
  have hb2 := hR.2.2.2.2.2.1
  refine W.mono (fun t => jEnd_of (k := H.size - s.heap.size) (n := jsum H - jsum s.heap) (by omega) (by omega)) (W.vret C.1 C.2.1 C.2.2.2.2.2.2.1 (fun t ht hW => ⟨?_, ?_⟩) hL.1 hd)
  · rfl
  · rw [ht]; exact hR.moved hW
theorem jr_areturn {v : Int} {rt : FieldType} (C : jC G X cc own nL (some rt) d nm) (hrt : (∃ n, rt = .object n) ∨ ∃ t, rt = .array t) (hd : decode cc pc = .ok (.areturn, 1)) : jWP G X nL pc ls [(2, v)] σ σ (2, v) := by
  obtain ⟨p, l, e, R, s, m, args, below, meth, c⟩ := X
  intro H locs la hR hL hs hl ha
  rw [jall_cons] at hs
  have hlk : meth.locks = false := C.2.2.2.2.2.1
  have hb := hR.2.2.2.2.1
  have hb2 := hR.2.2.2.2.2.1
  have hv : jv (2, v) = .null ∨ ∃ a, jv (2, v) = .ref a := by
    by_cases h : v < 0
    · left; have := jok_r.mp hs.1; rw [show v = -1 by omega]; rfl
    · right; exact ⟨_, jv_r (by omega)⟩
  refine W.mono (fun t => jEnd_of (k := H.size - s.heap.size) (n := jsum H - jsum s.heap) (by omega) (by omega)) (W.aret C.1 C.2.1 C.2.2.2.2.2.2.1 hrt hv (fun t ht hW => ⟨?_, ?_⟩) hL.1 hd)
  · exact ⟨rfl, hs.1⟩
  · rw [ht]; exact hR.moved hW
end jRet
