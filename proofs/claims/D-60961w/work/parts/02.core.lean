/-! the abstract heap, the relation to the machine's heap, the judgement -/
abbrev jS : Type := (Int → Int) × (Int → Int) × (Int → Int → Int → Int) × Int × Int × Int × Int × (Int → Int)
def jK (σ : jS) : Int → Int := σ.1
def jN (σ : jS) : Int → Int := σ.2.1
/-- the contents, by kind, cell, place -/
def jf (σ : jS) : Int → Int → Int → Int := σ.2.2.1
def jF (σ : jS) (a : Int) : Int → Int := jf σ (jK σ a) a
def jn (σ : jS) : Int := σ.2.2.2.1
def ju (σ : jS) : Int := σ.2.2.2.2.1
def jlN (σ : jS) : Int := σ.2.2.2.2.2.1
def jlU (σ : jS) : Int := σ.2.2.2.2.2.2.1
/-- the constants' addresses, by number -/
def jc (σ : jS) : Int → Int := σ.2.2.2.2.2.2.2
/-- what stays: slots and class ids; array classes; the classes, their fields' types, the arrays' element types; the first new cell; the limits -/
abbrev jG : Type := va_G × (Nat → ClassId) × Nat × Nat × Nat × (Int → Int)
def gD (G : jG) : va_G := G.1
def gA (G : jG) : Nat → ClassId := G.2.1
def gb (G : jG) : Nat := G.2.2.1
def gN (G : jG) : Nat := G.2.2.2.1
def gU (G : jG) : Nat := G.2.2.2.2.1
def gC (G : jG) : Int → Int := G.2.2.2.2.2
/-- the arrays' element types, by number -/
def jEt (t : Nat) : Option FieldType := match t with
  | 0 => some .int
  | 1 => some .byte
  | 2 => some .boolean
  | 3 => some .short
  | 4 => some .long
  | 5 => some .char
  | 6 => some (.array .byte)
  | 7 => some (.object "ChainHouse$CodeWords$Field")
  | 8 => some (.object "ChainHouse$CodeWords$Kind")
  | 9 => some (.object "ChainHouse$ImageFile$Segment")
  | 10 => some (.object "ChainHouse$Named")
  | 11 => some (.object "ChainHouse$ObjectFile")
  | 12 => some (.object "ChainHouse$ObjectFile$Relocation")
  | 13 => some (.object "ChainHouse$ObjectFile$Section")
  | 14 => some (.object "ChainHouse$ObjectFile$Symbol")
  | 15 => some (.object "ChainHouse$ShrinkLayout$Call")
  | 16 => some (.object "ChainHouse$ShrinkLayout$Fill")
  | 17 => some (.object "ChainHouse$ShrinkLayout$Label")
  | 18 => some (.object "ChainHouse$ShrinkLayout$Load")
  | 19 => some (.object "ChainHouse$ShrinkLayout$Part")
  | 20 => some (.object "ChainHouse$ShrinkLayout$Piece")
  | 21 => some (.object "ChainHouse$ShrinkLayout$Plain")
  | 22 => some (.object "ChainHouse$StepMachine$Kept")
  | 23 => some (.object "ChainHouse$StepMachine$Segment")
  | 24 => some (.object "ChainHouse$UnitText$Operand")
  | 25 => some (.object "ChainHouse$UnitText$Statement")
  | 26 => some (.object "java/lang/String")
  | _ => none
def jtag (t : FieldType) : Nat := match t with
  | .long => 1
  | .object _ => 2
  | .array _ => 2
  | _ => 0
def jsum (H : Heap) : Nat := (H.toList.map (fun c => c.slots.size)).sum
def jcell0 (G : jG) (k nn : Int) (f : Int → Int) (H : Heap) (a : Nat) : Prop :=
  (0 ≤ k → k < 1000 → ∃ r : vw_C, jCl[k.toNat]? = some r ∧ t_OB a ((gD G).1 k.toNat) r.2.2 ((gD G).2 k.toNat) H (fun i => jv (jtag (jTy k.toNat i), f i)) ∧ ∀ i : Nat, i < r.2.2 → jok (jtag (jTy k.toNat i), f i))
  ∧ (1000 ≤ k → k < 2000 → ∃ t : FieldType, jEt (k - 1000).toNat = some t ∧ 0 ≤ nn ∧ nn ≤ 2147483647 ∧ H[a]? = some (arrV (gA G (k - 1000).toNat) nn.toNat (fun i => jv (jtag t, f i))) ∧ ∀ i : Nat, i < nn.toNat → jok (jtag t, f i))
  ∧ (2000 ≤ k → k < 3000 → ∃ cell : Cell, H[a]? = some cell ∧ cell.cls = (gD G).1 (k - 2000).toNat ∧ cell.vm.isStatics = false ∧ cell.vm ≠ .unknown)
/-- kinds from 3000 on: cells that were there before, and are only read; new cells hold no statics -/
def jcell (G : jG) (k nn : Int) (f : Int → Int) (H : Heap) (a : Nat) : Prop := (0 ≤ k → k < 3000 → gb G ≤ a) ∧ jcell0 G (if 3000 ≤ k then k - 3000 else k) nn f H a ∧ (gb G ≤ a → ∀ cell : Cell, H[a]? = some cell → cell.vm.isStatics = false)
theorem jcell.n {G : jG} {k nn : Int} {f : Int → Int} {H : Heap} {a : Nat} (h : jcell G k nn f H a) (hk : k < 3000) : jcell0 G k nn f H a := by
  have := h.2.1
  rwa [if_neg (by omega)] at this
theorem jcell.r {G : jG} {k nn : Int} {f : Int → Int} {H : Heap} {a : Nat} (h : jcell G k nn f H a) (hk : 3000 ≤ k) : jcell0 G (k - 3000) nn f H a := by
  have := h.2.1
  rwa [if_pos hk] at this
theorem jcell0.ns {G : jG} {k nn : Int} {f : Int → Int} {H : Heap} {a : Nat} (h : jcell0 G k nn f H a) (h0 : 0 ≤ k) (hk : k < 3000) : ∀ cell : Cell, H[a]? = some cell → cell.vm.isStatics = false := by
  intro cell hc
  obtain ⟨h1, h2, h3⟩ := h
  by_cases g1 : k < 1000
  · obtain ⟨r, -, ⟨cell', q1, -, q3, -⟩, -⟩ := h1 h0 g1
    cases hc.symm.trans q1
    rw [q3]; rfl
  · by_cases g2 : k < 2000
    · obtain ⟨t, -, -, -, q, -⟩ := h2 (by omega) g2
      cases hc.symm.trans q
      rfl
    · obtain ⟨cell', q1, -, q3, -⟩ := h3 (by omega) hk
      cases hc.symm.trans q1
      exact q3
theorem jcell.mk {G : jG} {k nn : Int} {f : Int → Int} {H : Heap} {a : Nat} (h : jcell0 G k nn f H a) (hk : k < 3000) (ha : gb G ≤ a) (h0 : 0 ≤ k := by omega) : jcell G k nn f H a := ⟨fun _ _ => ha, by rw [if_neg (by omega)]; exact h, fun _ => h.ns h0 hk⟩
/-- words of the tables that don't ride in the lists -/
def jnest (w : Cond) : Bool := match w with
  | .fieldLinkNest .. => true
  | .methodLinkNest .. => true
  | .castable .. => true
  | .privateMethod _ => true
  | .declares _ => true
  | _ => false
theorem jNw_priv {x : MethodName} {s U : State} (hW : s.WarmedH U.vm) (hZ : va_Nw (.privateMethod x) s) : va_Nw (.privateMethod x) U := va_tabs rfl (rfl : (s.setVm U.vm).vm = U.vm) (by rw [Cond.privateMethod_setVm hW.alike]; exact hZ)
/-- pairs of classes of which the first one is no second one -/
def jNcs : List (String × String) := [("java/lang/IllegalArgumentException", "java/lang/IndexOutOfBoundsException"), ("java/lang/IllegalStateException", "java/lang/IllegalArgumentException"), ("ChainHouse$ShrinkLayout$Plain", "ChainHouse$ShrinkLayout$Fill"), ("ChainHouse$ShrinkLayout$Call", "ChainHouse$ShrinkLayout$Fill"), ("ChainHouse$ShrinkLayout$Load", "ChainHouse$ShrinkLayout$Fill")]
/-- the class of arrays of byte arrays -/
def jAB (U : State) : Prop := ∃ (cA comp : ClassId) (kA : Class), U.vm.findClass "[[B" = some cA ∧ U.vm.classes[cA]? = some kA ∧ kA.kind = .array comp (.array .byte) ∧ U.vm.findClass "[B" = some comp
theorem jAB.moved {u U : State} (hvm : u.vm.Alike U.vm) (h : jAB u) : jAB U := by
  obtain ⟨cA, comp, kA, h1, h2, h3, h4⟩ := h
  obtain ⟨kA', h2', he⟩ := hvm.2.2 _ _ h2
  exact ⟨cA, comp, kA', by rw [hvm.findClass]; exact h1, h2', by rw [he]; exact h3, by rw [hvm.findClass]; exact h4⟩
def jTab (G : jG) (U : State) : Prop := va_K (gD G) jCl [] U ∧ (∀ (t : Nat) (ty : FieldType), jEt t = some ty → ArrOfT U (gA G t) ty ∧ va_RA U (gA G t) ty) ∧ (∀ w ∈ lw_tbl, jnest w = true → va_Nw w U) ∧ (∀ C : String, Cond.arrayOver (.object C) ∈ lw_tbl → va_AO C U) ∧ (∀ q ∈ jNcs, va_Nc q.1 q.2 U) ∧ jAB U
/-- a static that nobody writes: its cell is an old one -/
def jZ (C n d : String) (v : Value) (b : Nat) (U : State) (H : Heap) : Prop := ∃ (c : ClassId) (k : Class) (i : Nat) (f : Field) (a : Nat) (cell : Cell), U.vm.findClass C = some c ∧ U.fieldFound? C n d = some (c, k, i, f) ∧ f.isStatic = true ∧ k.init = .initialized ∧ k.statics = some a ∧ H[a]? = some cell ∧ cell.vm.isStatics = true ∧ cell.cls = c ∧ f.slot < cell.slots.size ∧ k.staticTypes[f.slot]? = some f.type ∧ cell.slots[f.slot]? = some v ∧ a < b
theorem jZ.moved {C n d : String} {v : Value} {b : Nat} {u U : State} {H : Heap} (hvm : u.vm.Alike U.vm) (h : jZ C n d v b u H) : jZ C n d v b U H := by
  obtain ⟨c, k, i, f, a, cell, h0, h1, h2, h3, h4, h5, h6, h7, h8, h9, h10⟩ := h
  obtain ⟨k', hi', he⟩ := State.fieldFound?_setVm hvm h1
  exact ⟨c, k', i, f, a, cell, by rw [hvm.findClass]; exact h0, hi', h2, by rw [he]; exact h3, by rw [he]; exact h4, h5, h6, h7, h8, by rw [he]; exact h9, h10⟩
theorem jZ.kept {C n d : String} {v : Value} {b : Nat} {U : State} {H H1 : Heap} (h : jZ C n d v b U H) (hq : ∀ a : Nat, a < b → H1[a]? = H[a]?) : jZ C n d v b U H1 := by
  obtain ⟨c, k, i, f, a, cell, h0, h1, h2, h3, h4, h5, h6, h7, h8, h9, h10, h11⟩ := h
  exact ⟨c, k, i, f, a, cell, h0, h1, h2, h3, h4, by rw [hq a h11]; exact h5, h6, h7, h8, h9, h10, h11⟩
theorem jZ.lays {C n d : String} {v : Value} {b : Nat} {s : State} {args : Array Value} (h : jZ C n d v b s s.heap) : (Cond.laysStatic C n d).before args s = true := by
  obtain ⟨c, k, i, f, a, cell, h0, h1, h2, h3, h4, h5, h6, h7, h8, h9, h10, h11⟩ := h
  exact Cond.laysStatic_of h0 h1 h2 h4 h5 h6 h7 h8 h9
theorem jZ.isRef {C n d : String} {z : Int} {b : Nat} {s : State} {args : Array Value} (h : jZ C n d (jv (2, z)) b s s.heap) : (Cond.isRef (.static C n d)).before args s = true := by
  obtain ⟨c, k, i, f, a, cell, h0, h1, h2, h3, h4, h5, h6, h7, h8, h9, h10, h11⟩ := h
  have he : (Term.static C n d).eval args s none [] s = some (jv (2, z)) := by
    simp [Term.eval, State.fieldNamed?, h1, h2, h4, h5, h6, h10]
  simp only [Cond.before, Cond.holds, Cond.value, he]
  unfold jv
  by_cases hz : z < 0 <;> simp [hz]
theorem jZ.Z {C n d : String} {v : Value} {b : Nat} {U : State} {H : Heap} (h : jZ C n d v b U H) : va_Z C n d v (fun q => b ≤ q) U H := by
  obtain ⟨c, k, i, f, a, cell, h0, h1, h2, h3, h4, h5, h6, h7, h8, h9, h10, h11⟩ := h
  exact ⟨c, k, i, f, a, cell, h1, h2, h3, h4, h5, h6, h10, fun q => absurd q (Nat.not_le.mpr h11)⟩
/-- the constants: strings by their places, statics -/
def jsv (G : jG) (t : Nat) (x : Int) : jT := if t = 2 then (2, gC G x) else (0, x)
def jCn (G : jG) (U : State) (σ : jS) (H : Heap) : Prop := jc σ = gC G ∧ (∀ (i : Nat) (q : String × Nat × String), jCs[i]? = some q → vk_R q.1 q.2.1 q.2.2 (gC G i).toNat U ∧ 0 ≤ gC G i) ∧ ∀ q ∈ jSt, jZ q.1 q.2.1 q.2.2.1 (jv (jsv G q.2.2.2.1 q.2.2.2.2)) (gb G) U H ∧ jok (jsv G q.2.2.2.1 q.2.2.2.2)
theorem jCn.moved {G : jG} {u U : State} {σ : jS} {H : Heap} (hW : u.WarmedH U.vm) (h : jCn G u σ H) : jCn G U σ H := ⟨h.1, fun i q hq => ⟨(h.2.1 i q hq).1.warm hW, (h.2.1 i q hq).2⟩, fun q hq => ⟨(h.2.2 q hq).1.moved hW.alike, (h.2.2 q hq).2⟩⟩
theorem jCn.kept {G : jG} {U : State} {σ σ1 : jS} {H H1 : Heap} (h : jCn G U σ H) (hc : jc σ1 = jc σ) (hq : ∀ a : Nat, a < gb G → H1[a]? = H[a]?) : jCn G U σ1 H1 := ⟨hc.trans h.1, h.2.1, fun q hq' => ⟨(h.2.2 q hq').1.kept hq, (h.2.2 q hq').2⟩⟩
/-- back from a callee's end -/
theorem jCn.back {G : jG} {s u : State} {σ σ1 : jS} {H H1 : Heap} (hW : s.vm.Alike u.vm) (h : jCn G s σ H) (h1 : jCn G u σ1 H1) : jCn G s σ1 H1 := ⟨h1.1, h.2.1, fun q hq => ⟨(h1.2.2 q hq).1.moved hW.symm, (h1.2.2 q hq).2⟩⟩
def jRel (G : jG) (U : State) (σ : jS) (H : Heap) : Prop :=
  (H.size : Int) = jn σ ∧ ((jsum H : Nat) : Int) = ju σ ∧ (∀ a : Nat, jcell G (jK σ a) (jN σ a) (jF σ a) H a) ∧ gb G ≤ H.size ∧ (H.size ≤ gN G ∧ (gN G : Int) = jlN σ) ∧ (jsum H ≤ gU G ∧ (gU G : Int) = jlU σ ∧ jCn G U σ H) ∧ jTab G U
theorem jTab.moved {G : jG} {u U : State} (hW : u.WarmedH U.vm) (h : jTab G u) : jTab G U := by
  have hvm := hW.alike
  refine ⟨va_K.moved hvm h.1, fun t ty ht => ⟨arrOfT_moved hvm (h.2.1 t ty ht).1, (h.2.1 t ty ht).2.moved hvm⟩, fun w hw hn => ?_, fun C hC => (h.2.2.2.1 C hC).moved hvm, fun q hq => (h.2.2.2.2.1 q hq).moved hvm, h.2.2.2.2.2.moved hvm⟩
  have h1 := h.2.2.1 w hw hn
  cases w <;> first | exact absurd hn (by decide) | exact va_Nw.warmF hW h1 | exact va_Nw.warmM hW h1 | exact va_Nw.warmC hW h1 | exact jNw_priv hW h1 | exact va_Nw.warmD hW h1 | (simp [jnest] at hn)
theorem jRel.moved {G : jG} {u U : State} {σ : jS} {H : Heap} (hvm : u.WarmedH U.vm) (h : jRel G u σ H) : jRel G U σ H := ⟨h.1, h.2.1, h.2.2.1, h.2.2.2.1, h.2.2.2.2.1, ⟨h.2.2.2.2.2.1.1, h.2.2.2.2.2.1.2.1, h.2.2.2.2.2.1.2.2.moved hvm⟩, h.2.2.2.2.2.2.moved hvm⟩
abbrev jX : Type := Program × Launch × Env × Room × State × MethodId × Array Value × List Frame × Method × Code
def xS (X : jX) : State := X.2.2.2.2.1
/-- the outcome that a result stands for: 5 nothing, 9 thrown -/
def jout (r : jT) (o : Outcome) : Prop := if r.1 = 5 then o = .returned none else if r.1 = 9 then o = .threw r.2.toNat ∧ 0 ≤ r.2 else o = .returned (some (jv r)) ∧ jok r
/-- the frame of a whole call, whatever the outcome -/
def jFr (s t : State) (mc ms : Nat) (free : Addr → Prop) : Prop := s.WarmedH t.vm ∧ ∃ L : List Loc, s.sameButNew { t with vm := s.vm } L mc ms ∧ ∀ q ∈ L, free q.base
def jEnd (G : jG) (below : List Frame) (s : State) (σ' : jS) (r : jT) : State → Prop := fun t =>
  ∃ o, t.status = .running ∧ Ended t below o ∧ (jout r o ∧ jRel G t σ' t.heap) ∧ jFr s t (gN G - s.heap.size) (gU G - jsum s.heap) (fun q => gb G ≤ q)
/-- what was written is new; the heap has only grown -/
def jLo (G : jG) (s : State) (locs : List Loc) (H : Heap) : Prop := (∀ q ∈ locs, gb G ≤ q.base) ∧ s.heap.size ≤ H.size ∧ jsum s.heap ≤ jsum H
def jWP (G : jG) (X : jX) (nL pc : Nat) (ls : List (Nat × jT)) (st : List jT) (σ σ' : jS) (r : jT) : Prop := match X with
  | (p, l, e, R, s, m, args, below, meth, c) =>
    ∀ (H : Heap) (locs : List Loc) (la : Array Slot), jRel G s σ H → jLo G s locs H → (∀ v ∈ st, jok v) → (∀ q ∈ ls, jok q.2) → lv_has la nL (ls.map (fun q => (q.1, jv q.2))) →
      W p l e R s m args below meth c H locs (H.size - s.heap.size) (jsum H - jsum s.heap) (jEnd G below s σ' r) (F0 m pc la (st.map jv))
/-- what a walk knows of where it is -/
def jC (G : jG) (X : jX) (cc : ByteArray) (own : String) (nL : Nat) (ret : Option FieldType) (d : Nat) (nm : String) : Prop := match X with
  | (p, l, e, R, s, m, args, below, meth, c) =>
    p.tables.exec = Jvm.exec ∧ c.code = cc ∧ c.maxLocals = nL ∧ s.vm.findClass own = some m.cls ∧ (∀ w ∈ lw_all, w.before args s = true) ∧ meth.locks = false ∧ meth.sig.returnType = ret ∧
    (d ≤ R.frames ∧ R.cells = gN G - s.heap.size ∧ R.slots = gU G - jsum s.heap ∧ 64 * d ≤ R.locals) ∧ s.heap.size ≤ gN G ∧ jsum s.heap ≤ gU G ∧ (gb G ≤ s.heap.size ∧ ∃ σ0, jRel G s σ0 s.heap) ∧ meth.name = nm
/-- the launch makes no stack traces; a method without handlers -/
def jFl (l : Launch) : Prop := l.flags = pinnedFlags ++ [noTraceFlag]
def jNoH (X : jX) : Prop := X.2.2.2.2.2.2.2.2.2.exceptionTable = #[] ∧ jFl X.2.1
theorem W.mono {p : Program} {l : Launch} {e : Env} {R : Room} {s : State} {m : MethodId} {args : Array Value} {below : List Frame} {meth : Method} {c : Code} {H : Heap} {locs : List Loc} {cells slots : Nat} {Q Q' : State → Prop} {g : JFrame} (h : ∀ t, Q t → Q' t) (k : W p l e R s m args below meth c H locs cells slots Q g) : W p l e R s m args below meth c H locs cells slots Q' g := by
  intro T hT X
  obtain ⟨t, a, b⟩ := k T hT X
  exact ⟨t, a, h t b⟩
theorem jall_cons {v : jT} {st : List jT} : (∀ w ∈ v :: st, jok w) ↔ jok v ∧ ∀ w ∈ st, jok w := List.forall_mem_cons
theorem jl_at {la : Array Slot} {nL : Nat} {ls : List (Nat × jT)} (h : lv_has la nL (ls.map (fun q => (q.1, jv q.2)))) (k : Nat) {i : Nat} {v : jT} (hk : ls[k]? = some (i, v)) : la[i]? = some (.val (jv v)) :=
  lv_at h k (by rw [List.getElem?_map, hk]; rfl)
theorem jl_ok {ls : List (Nat × jT)} (h : ∀ q ∈ ls, jok q.2) {k i : Nat} {v : jT} (hk : ls[k]? = some (i, v)) : jok v := h _ (List.mem_of_getElem? hk)
/-- the locals behind a store of one slot, of two -/
def jst1 (i : Nat) (v : jT) (ls : List (Nat × jT)) : List (Nat × jT) := (i, v) :: ls.filter (fun q => !(q.1 == i) && !(q.1 + 1 == i && q.2.1 == 1))
def jst2 (i : Nat) (v : jT) (ls : List (Nat × jT)) : List (Nat × jT) := (i, v) :: ls.filter (fun q => !(q.1 == i) && (!(q.1 == i + 1) && !(q.1 + 1 == i && q.2.1 == 1)))
theorem jcat {v : jT} (h : jok v) : ((jv v).category == 2) = (v.1 == 1) := by
  obtain ⟨t, z⟩ := v
  rcases h with ⟨h, -⟩ | ⟨h, -⟩ | ⟨h, -⟩ <;> (dsimp only at h; subst h)
  · rfl
  · rfl
  · unfold jv
    by_cases h : z < 0 <;> simp [h, Value.category]
theorem jst1_map {i : Nat} {v : jT} {ls : List (Nat × jT)} (h : ∀ q ∈ ls, jok q.2) : (i, jv v) :: (ls.map (fun q => (q.1, jv q.2))).filter (fun q => !(q.1 == i) && !(q.1 + 1 == i && q.2.category == 2)) = (jst1 i v ls).map (fun q => (q.1, jv q.2)) := by
  unfold jst1
  rw [List.map_cons, List.filter_map]
  congr 2
  apply List.filter_congr
  intro q hq
  simp only [Function.comp, jcat (h q hq)]
theorem jst2_map {i : Nat} {v : jT} {ls : List (Nat × jT)} (h : ∀ q ∈ ls, jok q.2) : (i, jv v) :: (ls.map (fun q => (q.1, jv q.2))).filter (fun q => !(q.1 == i) && (!(q.1 == i + 1) && !(q.1 + 1 == i && q.2.category == 2))) = (jst2 i v ls).map (fun q => (q.1, jv q.2)) := by
  unfold jst2
  rw [List.map_cons, List.filter_map]
  congr 2
  apply List.filter_congr
  intro q hq
  simp only [Function.comp, jcat (h q hq)]
theorem jst1_ok {i : Nat} {v : jT} {ls : List (Nat × jT)} (hv : jok v) (h : ∀ q ∈ ls, jok q.2) : ∀ q ∈ jst1 i v ls, jok q.2 := by
  intro q hq
  rcases List.mem_cons.mp hq with rfl | hq
  · exact hv
  · exact h q (List.mem_filter.mp hq).1
theorem jst2_ok {i : Nat} {v : jT} {ls : List (Nat × jT)} (hv : jok v) (h : ∀ q ∈ ls, jok q.2) : ∀ q ∈ jst2 i v ls, jok q.2 := by
  intro q hq
  rcases List.mem_cons.mp hq with rfl | hq
  · exact hv
  · exact h q (List.mem_filter.mp hq).1
section jRules
variable {G : jG} {X : jX} {cc : ByteArray} {own nm : String} {nL d pc : Nat} {ret : Option FieldType} {ls : List (Nat × jT)} {st : List jT} {σ σ' : jS} {r : jT}
/-- fewer known locals, in any order -/
theorem jr_sub {ls' : List (Nat × jT)} (ks : List Nat) (hl : ks.filterMap (fun k => ls[k]?) = ls') (k : jWP G X nL pc ls' st σ σ' r) : jWP G X nL pc ls st σ σ' r := by
  obtain ⟨p, l, e, R, s, m, args, below, meth, c⟩ := X
  intro H locs la hR hL hs hl0 ha
  refine k H locs la hR hL hs (fun q hq => ?_) (lv_sub ha ks ?_)
  · rw [← hl] at hq
    obtain ⟨j, -, hj⟩ := List.mem_filterMap.mp hq
    exact hl0 q (List.mem_of_getElem? hj)
  · rw [← hl]
    unfold lv_pick
    rw [List.map_filterMap]
    exact congrArg (fun f => List.filterMap f ks) (funext fun j => by rw [List.getElem?_map])
theorem jr_iadd (C : jC G X cc own nL ret d nm) {x y : Int} (hd : decode cc pc = .ok (.iadd, 1)) (k : jWP G X nL (pc + 1) ls ((0, w32 (x + y)) :: st) σ σ' r) : jWP G X nL pc ls ((0, y) :: (0, x) :: st) σ σ' r := by
  obtain ⟨p, l, e, R, s, m, args, below, meth, c⟩ := X
  intro H locs la hR hL hs hl ha
  rw [jall_cons, jall_cons] at hs
  have e1 : Int32.ofInt x + Int32.ofInt y = Int32.ofInt (w32 (x + y)) := by exact jo_add x y
  refine lv_iadd C.1 C.2.1 hd ?_
  rw [e1]
  exact k H locs la hR hL (jall_cons.mpr ⟨jok_i.mpr (jin_t _), hs.2.2⟩) hl ha
theorem jr_isub (C : jC G X cc own nL ret d nm) {x y : Int} (hd : decode cc pc = .ok (.isub, 1)) (k : jWP G X nL (pc + 1) ls ((0, w32 (x - y)) :: st) σ σ' r) : jWP G X nL pc ls ((0, y) :: (0, x) :: st) σ σ' r := by
  obtain ⟨p, l, e, R, s, m, args, below, meth, c⟩ := X
  intro H locs la hR hL hs hl ha
  rw [jall_cons, jall_cons] at hs
  have e1 : Int32.ofInt x - Int32.ofInt y = Int32.ofInt (w32 (x - y)) := by exact jo_sub x y
  refine lv_isub C.1 C.2.1 hd ?_
  rw [e1]
  exact k H locs la hR hL (jall_cons.mpr ⟨jok_i.mpr (jin_t _), hs.2.2⟩) hl ha
theorem jr_imul (C : jC G X cc own nL ret d nm) {x y : Int} (hd : decode cc pc = .ok (.imul, 1)) (k : jWP G X nL (pc + 1) ls ((0, w32 (x * y)) :: st) σ σ' r) : jWP G X nL pc ls ((0, y) :: (0, x) :: st) σ σ' r := by
  obtain ⟨p, l, e, R, s, m, args, below, meth, c⟩ := X
  intro H locs la hR hL hs hl ha
  rw [jall_cons, jall_cons] at hs
  have e1 : Int32.ofInt x * Int32.ofInt y = Int32.ofInt (w32 (x * y)) := by exact jo_mul x y
  refine lv_imul C.1 C.2.1 hd ?_
  rw [e1]
  exact k H locs la hR hL (jall_cons.mpr ⟨jok_i.mpr (jin_t _), hs.2.2⟩) hl ha
theorem jr_iand (C : jC G X cc own nL ret d nm) {x y : Int} (hd : decode cc pc = .ok (.iand, 1)) (k : jWP G X nL (pc + 1) ls ((0, i_and x y) :: st) σ σ' r) : jWP G X nL pc ls ((0, y) :: (0, x) :: st) σ σ' r := by
  obtain ⟨p, l, e, R, s, m, args, below, meth, c⟩ := X
  intro H locs la hR hL hs hl ha
  rw [jall_cons, jall_cons] at hs
  have e1 : Int32.ofInt x &&& Int32.ofInt y = Int32.ofInt (i_and x y) := by exact (jo_i _).symm
  refine lv_iand C.1 C.2.1 hd ?_
  rw [e1]
  exact k H locs la hR hL (jall_cons.mpr ⟨jok_i.mpr (jin_t _), hs.2.2⟩) hl ha
theorem jr_ior (C : jC G X cc own nL ret d nm) {x y : Int} (hd : decode cc pc = .ok (.ior, 1)) (k : jWP G X nL (pc + 1) ls ((0, i_or x y) :: st) σ σ' r) : jWP G X nL pc ls ((0, y) :: (0, x) :: st) σ σ' r := by
  obtain ⟨p, l, e, R, s, m, args, below, meth, c⟩ := X
  intro H locs la hR hL hs hl ha
  rw [jall_cons, jall_cons] at hs
  have e1 : Int32.ofInt x ||| Int32.ofInt y = Int32.ofInt (i_or x y) := by exact (jo_i _).symm
  refine lv_ior C.1 C.2.1 hd ?_
  rw [e1]
  exact k H locs la hR hL (jall_cons.mpr ⟨jok_i.mpr (jin_t _), hs.2.2⟩) hl ha
theorem jr_ixor (C : jC G X cc own nL ret d nm) {x y : Int} (hd : decode cc pc = .ok (.ixor, 1)) (k : jWP G X nL (pc + 1) ls ((0, i_xor x y) :: st) σ σ' r) : jWP G X nL pc ls ((0, y) :: (0, x) :: st) σ σ' r := by
  obtain ⟨p, l, e, R, s, m, args, below, meth, c⟩ := X
  intro H locs la hR hL hs hl ha
  rw [jall_cons, jall_cons] at hs
  have e1 : Int32.ofInt x ^^^ Int32.ofInt y = Int32.ofInt (i_xor x y) := by exact (jo_i _).symm
  refine lv_ixor C.1 C.2.1 hd ?_
  rw [e1]
  exact k H locs la hR hL (jall_cons.mpr ⟨jok_i.mpr (jin_t _), hs.2.2⟩) hl ha
theorem jr_ishl (C : jC G X cc own nL ret d nm) {x y : Int} (hd : decode cc pc = .ok (.ishl, 1)) (k : jWP G X nL (pc + 1) ls ((0, i_shl x y) :: st) σ σ' r) : jWP G X nL pc ls ((0, y) :: (0, x) :: st) σ σ' r := by
  obtain ⟨p, l, e, R, s, m, args, below, meth, c⟩ := X
  intro H locs la hR hL hs hl ha
  rw [jall_cons, jall_cons] at hs
  have e1 : Int32.ofInt x <<< (Int32.ofInt y &&& 31) = Int32.ofInt (i_shl x y) := by exact (jo_i _).symm
  refine lv_ishl C.1 C.2.1 hd ?_
  rw [e1]
  exact k H locs la hR hL (jall_cons.mpr ⟨jok_i.mpr (jin_t _), hs.2.2⟩) hl ha
theorem jr_ishr (C : jC G X cc own nL ret d nm) {x y : Int} (hd : decode cc pc = .ok (.ishr, 1)) (k : jWP G X nL (pc + 1) ls ((0, i_shr x y) :: st) σ σ' r) : jWP G X nL pc ls ((0, y) :: (0, x) :: st) σ σ' r := by
  obtain ⟨p, l, e, R, s, m, args, below, meth, c⟩ := X
  intro H locs la hR hL hs hl ha
  rw [jall_cons, jall_cons] at hs
  have e1 : Int32.ofInt x >>> (Int32.ofInt y &&& 31) = Int32.ofInt (i_shr x y) := by exact (jo_i _).symm
  refine lv_ishr C.1 C.2.1 hd ?_
  rw [e1]
  exact k H locs la hR hL (jall_cons.mpr ⟨jok_i.mpr (jin_t _), hs.2.2⟩) hl ha
theorem jr_iushr (C : jC G X cc own nL ret d nm) {x y : Int} (hd : decode cc pc = .ok (.iushr, 1)) (k : jWP G X nL (pc + 1) ls ((0, i_ushr x y) :: st) σ σ' r) : jWP G X nL pc ls ((0, y) :: (0, x) :: st) σ σ' r := by
  obtain ⟨p, l, e, R, s, m, args, below, meth, c⟩ := X
  intro H locs la hR hL hs hl ha
  rw [jall_cons, jall_cons] at hs
  have e1 : ((Int32.ofInt x).toUInt32 >>> ((Int32.ofInt y).toUInt32 &&& Int32.toUInt32 31)).toInt32 = Int32.ofInt (i_ushr x y) := by exact (jo_i _).symm
  exact lv_iushr C.1 C.2.1 hd e1 (k H locs la hR hL (jall_cons.mpr ⟨jok_i.mpr (jin_t _), hs.2.2⟩) hl ha)
theorem jr_idiv (C : jC G X cc own nL ret d nm) {x y : Int} (hd : decode cc pc = .ok (.idiv, 1)) (hy : ¬ y = 0) (k : jWP G X nL (pc + 1) ls ((0, i_div x y) :: st) σ σ' r) : jWP G X nL pc ls ((0, y) :: (0, x) :: st) σ σ' r := by
  obtain ⟨p, l, e, R, s, m, args, below, meth, c⟩ := X
  intro H locs la hR hL hs hl ha
  rw [jall_cons, jall_cons] at hs
  have e1 : Int32.ofInt x / Int32.ofInt y = Int32.ofInt (i_div x y) := by exact (jo_i _).symm
  refine lv_idiv C.1 C.2.1 hd (fun h => hy ((jo_eq (jok_i.mp hs.1) jin_0).mp h)) ?_
  rw [e1]
  exact k H locs la hR hL (jall_cons.mpr ⟨jok_i.mpr (jin_t _), hs.2.2⟩) hl ha
theorem jr_irem (C : jC G X cc own nL ret d nm) {x y : Int} (hd : decode cc pc = .ok (.irem, 1)) (hy : ¬ y = 0) (k : jWP G X nL (pc + 1) ls ((0, i_rem x y) :: st) σ σ' r) : jWP G X nL pc ls ((0, y) :: (0, x) :: st) σ σ' r := by
  obtain ⟨p, l, e, R, s, m, args, below, meth, c⟩ := X
  intro H locs la hR hL hs hl ha
  rw [jall_cons, jall_cons] at hs
  have e1 : Int32.ofInt x - Int32.ofInt x / Int32.ofInt y * Int32.ofInt y = Int32.ofInt (i_rem x y) := by exact (jo_i _).symm
  refine lv_irem C.1 C.2.1 hd (fun h => hy ((jo_eq (jok_i.mp hs.1) jin_0).mp h)) ?_
  rw [e1]
  exact k H locs la hR hL (jall_cons.mpr ⟨jok_i.mpr (jin_t _), hs.2.2⟩) hl ha
theorem jr_ladd (C : jC G X cc own nL ret d nm) {x y : Int} (hd : decode cc pc = .ok (.ladd, 1)) (k : jWP G X nL (pc + 1) ls ((1, w64 (x + y)) :: st) σ σ' r) : jWP G X nL pc ls ((1, y) :: (1, x) :: st) σ σ' r := by
  obtain ⟨p, l, e, R, s, m, args, below, meth, c⟩ := X
  intro H locs la hR hL hs hl ha
  rw [jall_cons, jall_cons] at hs
  have e1 : Int64.ofInt x + Int64.ofInt y = Int64.ofInt (w64 (x + y)) := by exact jo_addl x y
  refine lv_ladd C.1 C.2.1 hd ?_
  rw [e1]
  exact k H locs la hR hL (jall_cons.mpr ⟨jok_l.mpr (jlin_t _), hs.2.2⟩) hl ha
theorem jr_lsub (C : jC G X cc own nL ret d nm) {x y : Int} (hd : decode cc pc = .ok (.lsub, 1)) (k : jWP G X nL (pc + 1) ls ((1, w64 (x - y)) :: st) σ σ' r) : jWP G X nL pc ls ((1, y) :: (1, x) :: st) σ σ' r := by
  obtain ⟨p, l, e, R, s, m, args, below, meth, c⟩ := X
  intro H locs la hR hL hs hl ha
  rw [jall_cons, jall_cons] at hs
  have e1 : Int64.ofInt x - Int64.ofInt y = Int64.ofInt (w64 (x - y)) := by exact jo_subl x y
  refine lv_lsub C.1 C.2.1 hd ?_
  rw [e1]
  exact k H locs la hR hL (jall_cons.mpr ⟨jok_l.mpr (jlin_t _), hs.2.2⟩) hl ha
theorem jr_lmul (C : jC G X cc own nL ret d nm) {x y : Int} (hd : decode cc pc = .ok (.lmul, 1)) (k : jWP G X nL (pc + 1) ls ((1, w64 (x * y)) :: st) σ σ' r) : jWP G X nL pc ls ((1, y) :: (1, x) :: st) σ σ' r := by
  obtain ⟨p, l, e, R, s, m, args, below, meth, c⟩ := X
  intro H locs la hR hL hs hl ha
  rw [jall_cons, jall_cons] at hs
  have e1 : Int64.ofInt x * Int64.ofInt y = Int64.ofInt (w64 (x * y)) := by exact jo_mull x y
  refine lv_lmul C.1 C.2.1 hd ?_
  rw [e1]
  exact k H locs la hR hL (jall_cons.mpr ⟨jok_l.mpr (jlin_t _), hs.2.2⟩) hl ha
theorem jr_land (C : jC G X cc own nL ret d nm) {x y : Int} (hd : decode cc pc = .ok (.land, 1)) (k : jWP G X nL (pc + 1) ls ((1, l_and x y) :: st) σ σ' r) : jWP G X nL pc ls ((1, y) :: (1, x) :: st) σ σ' r := by
  obtain ⟨p, l, e, R, s, m, args, below, meth, c⟩ := X
  intro H locs la hR hL hs hl ha
  rw [jall_cons, jall_cons] at hs
  have e1 : Int64.ofInt x &&& Int64.ofInt y = Int64.ofInt (l_and x y) := by exact (jo_il _).symm
  refine lv_land C.1 C.2.1 hd ?_
  rw [e1]
  exact k H locs la hR hL (jall_cons.mpr ⟨jok_l.mpr (jlin_t _), hs.2.2⟩) hl ha
theorem jr_lor (C : jC G X cc own nL ret d nm) {x y : Int} (hd : decode cc pc = .ok (.lor, 1)) (k : jWP G X nL (pc + 1) ls ((1, l_or x y) :: st) σ σ' r) : jWP G X nL pc ls ((1, y) :: (1, x) :: st) σ σ' r := by
  obtain ⟨p, l, e, R, s, m, args, below, meth, c⟩ := X
  intro H locs la hR hL hs hl ha
  rw [jall_cons, jall_cons] at hs
  have e1 : Int64.ofInt x ||| Int64.ofInt y = Int64.ofInt (l_or x y) := by exact (jo_il _).symm
  refine lv_lor C.1 C.2.1 hd ?_
  rw [e1]
  exact k H locs la hR hL (jall_cons.mpr ⟨jok_l.mpr (jlin_t _), hs.2.2⟩) hl ha
theorem jr_lxor (C : jC G X cc own nL ret d nm) {x y : Int} (hd : decode cc pc = .ok (.lxor, 1)) (k : jWP G X nL (pc + 1) ls ((1, l_xor x y) :: st) σ σ' r) : jWP G X nL pc ls ((1, y) :: (1, x) :: st) σ σ' r := by
  obtain ⟨p, l, e, R, s, m, args, below, meth, c⟩ := X
  intro H locs la hR hL hs hl ha
  rw [jall_cons, jall_cons] at hs
  have e1 : Int64.ofInt x ^^^ Int64.ofInt y = Int64.ofInt (l_xor x y) := by exact (jo_il _).symm
  refine lv_lxor C.1 C.2.1 hd ?_
  rw [e1]
  exact k H locs la hR hL (jall_cons.mpr ⟨jok_l.mpr (jlin_t _), hs.2.2⟩) hl ha
theorem jr_lshl (C : jC G X cc own nL ret d nm) {x y : Int} (hd : decode cc pc = .ok (.lshl, 1)) (k : jWP G X nL (pc + 1) ls ((1, l_shl x y) :: st) σ σ' r) : jWP G X nL pc ls ((0, y) :: (1, x) :: st) σ σ' r := by
  obtain ⟨p, l, e, R, s, m, args, below, meth, c⟩ := X
  intro H locs la hR hL hs hl ha
  rw [jall_cons, jall_cons] at hs
  have e1 : Int64.ofInt x <<< ((Int32.ofInt y).toInt64 &&& 63) = Int64.ofInt (l_shl x y) := by exact (jo_il _).symm
  exact lv_lshl C.1 C.2.1 hd e1 (k H locs la hR hL (jall_cons.mpr ⟨jok_l.mpr (jlin_t _), hs.2.2⟩) hl ha)
theorem jr_lshr (C : jC G X cc own nL ret d nm) {x y : Int} (hd : decode cc pc = .ok (.lshr, 1)) (k : jWP G X nL (pc + 1) ls ((1, l_shr x y) :: st) σ σ' r) : jWP G X nL pc ls ((0, y) :: (1, x) :: st) σ σ' r := by
  obtain ⟨p, l, e, R, s, m, args, below, meth, c⟩ := X
  intro H locs la hR hL hs hl ha
  rw [jall_cons, jall_cons] at hs
  have e1 : Int64.ofInt x >>> ((Int32.ofInt y).toInt64 &&& 63) = Int64.ofInt (l_shr x y) := by exact (jo_il _).symm
  exact lv_lshr C.1 C.2.1 hd e1 (k H locs la hR hL (jall_cons.mpr ⟨jok_l.mpr (jlin_t _), hs.2.2⟩) hl ha)
theorem jr_lushr (C : jC G X cc own nL ret d nm) {x y : Int} (hd : decode cc pc = .ok (.lushr, 1)) (k : jWP G X nL (pc + 1) ls ((1, l_ushr x y) :: st) σ σ' r) : jWP G X nL pc ls ((0, y) :: (1, x) :: st) σ σ' r := by
  obtain ⟨p, l, e, R, s, m, args, below, meth, c⟩ := X
  intro H locs la hR hL hs hl ha
  rw [jall_cons, jall_cons] at hs
  have e1 : ((Int64.ofInt x).toUInt64 >>> ((Int32.ofInt y).toInt64.toUInt64 &&& Int64.toUInt64 63)).toInt64 = Int64.ofInt (l_ushr x y) := by exact (jo_il _).symm
  exact lv_lushr C.1 C.2.1 hd e1 (k H locs la hR hL (jall_cons.mpr ⟨jok_l.mpr (jlin_t _), hs.2.2⟩) hl ha)
theorem jr_ldiv (C : jC G X cc own nL ret d nm) {x y : Int} (hd : decode cc pc = .ok (.ldiv, 1)) (hy : ¬ y = 0) (k : jWP G X nL (pc + 1) ls ((1, l_div x y) :: st) σ σ' r) : jWP G X nL pc ls ((1, y) :: (1, x) :: st) σ σ' r := by
  obtain ⟨p, l, e, R, s, m, args, below, meth, c⟩ := X
  intro H locs la hR hL hs hl ha
  rw [jall_cons, jall_cons] at hs
  have e1 : Int64.ofInt x / Int64.ofInt y = Int64.ofInt (l_div x y) := by exact (jo_il _).symm
  refine lv_ldiv C.1 C.2.1 hd (fun h => hy ((jo_eql (jok_l.mp hs.1) (by unfold jlin; omega)).mp h)) ?_
  rw [e1]
  exact k H locs la hR hL (jall_cons.mpr ⟨jok_l.mpr (jlin_t _), hs.2.2⟩) hl ha
theorem jr_lrem (C : jC G X cc own nL ret d nm) {x y : Int} (hd : decode cc pc = .ok (.lrem, 1)) (hy : ¬ y = 0) (k : jWP G X nL (pc + 1) ls ((1, l_rem x y) :: st) σ σ' r) : jWP G X nL pc ls ((1, y) :: (1, x) :: st) σ σ' r := by
  obtain ⟨p, l, e, R, s, m, args, below, meth, c⟩ := X
  intro H locs la hR hL hs hl ha
  rw [jall_cons, jall_cons] at hs
  have e1 : Int64.ofInt x - Int64.ofInt x / Int64.ofInt y * Int64.ofInt y = Int64.ofInt (l_rem x y) := by exact (jo_il _).symm
  refine lv_lrem C.1 C.2.1 hd (fun h => hy ((jo_eql (jok_l.mp hs.1) (by unfold jlin; omega)).mp h)) ?_
  rw [e1]
  exact k H locs la hR hL (jall_cons.mpr ⟨jok_l.mpr (jlin_t _), hs.2.2⟩) hl ha
theorem jo_cmp {x y : Int} (hx : jlin x) (hy : jlin y) : lg_cmp (Int64.ofInt x) (Int64.ofInt y) = Int32.ofInt (l_cmp x y) := by
  unfold lg_cmp l_cmp
  simp only [jo_eql hx hy, jo_ltl hx hy, gt_iff_lt, jo_ltl hy hx]
  rcases Int.lt_trichotomy x y with h | h | h
  · simp [h, Int.ne_of_lt h, Int.not_lt.mpr (Int.le_of_lt h)]
  · simp [h]
  · simp [h, (Int.ne_of_lt h).symm, Int.not_lt.mpr (Int.le_of_lt h)]
theorem jin_cmp (x y : Int) : jin (l_cmp x y) := by
  unfold l_cmp jin; split
  · omega
  · split <;> omega
theorem jr_lcmp (C : jC G X cc own nL ret d nm) {x y : Int} (hd : decode cc pc = .ok (.lcmp, 1)) (k : jWP G X nL (pc + 1) ls ((0, l_cmp x y) :: st) σ σ' r) : jWP G X nL pc ls ((1, y) :: (1, x) :: st) σ σ' r := by
  obtain ⟨p, l, e, R, s, m, args, below, meth, c⟩ := X
  intro H locs la hR hL hs hl ha
  rw [jall_cons, jall_cons] at hs
  refine W.lcmp C.1 C.2.1 hd ?_
  rw [jo_cmp (jok_l.mp hs.2.1) (jok_l.mp hs.1)]
  exact k H locs la hR hL (jall_cons.mpr ⟨jok_i.mpr (jin_cmp x y), hs.2.2⟩) hl ha
theorem jr_ineg (C : jC G X cc own nL ret d nm) {x : Int} (hd : decode cc pc = .ok (.ineg, 1)) (k : jWP G X nL (pc + 1) ls ((0, w32 (-x)) :: st) σ σ' r) : jWP G X nL pc ls ((0, x) :: st) σ σ' r := by
  obtain ⟨p, l, e, R, s, m, args, below, meth, c⟩ := X
  intro H locs la hR hL hs hl ha
  rw [jall_cons] at hs
  have e1 : -Int32.ofInt x = Int32.ofInt (w32 (-x)) := by exact jo_neg x
  refine lv_ineg C.1 C.2.1 hd ?_
  rw [e1]
  exact k H locs la hR hL (jall_cons.mpr ⟨jok_i.mpr (jin_t _), hs.2⟩) hl ha
theorem jr_lneg (C : jC G X cc own nL ret d nm) {x : Int} (hd : decode cc pc = .ok (.lneg, 1)) (k : jWP G X nL (pc + 1) ls ((1, w64 (-x)) :: st) σ σ' r) : jWP G X nL pc ls ((1, x) :: st) σ σ' r := by
  obtain ⟨p, l, e, R, s, m, args, below, meth, c⟩ := X
  intro H locs la hR hL hs hl ha
  rw [jall_cons] at hs
  have e1 : -Int64.ofInt x = Int64.ofInt (w64 (-x)) := by exact jo_negl x
  refine lv_lneg C.1 C.2.1 hd ?_
  rw [e1]
  exact k H locs la hR hL (jall_cons.mpr ⟨jok_l.mpr (jlin_t _), hs.2⟩) hl ha
theorem jr_i2b (C : jC G X cc own nL ret d nm) {x : Int} (hd : decode cc pc = .ok (.i2b, 1)) (k : jWP G X nL (pc + 1) ls ((0, w8 x) :: st) σ σ' r) : jWP G X nL pc ls ((0, x) :: st) σ σ' r := by
  obtain ⟨p, l, e, R, s, m, args, below, meth, c⟩ := X
  intro H locs la hR hL hs hl ha
  rw [jall_cons] at hs
  have e1 : (Int32.ofInt x).toInt8.toInt32 = Int32.ofInt (w8 x) := by exact (jo_i _).symm
  exact lv_i2b C.1 C.2.1 hd e1 (k H locs la hR hL (jall_cons.mpr ⟨jok_i.mpr (jin_t _), hs.2⟩) hl ha)
theorem jr_i2s (C : jC G X cc own nL ret d nm) {x : Int} (hd : decode cc pc = .ok (.i2s, 1)) (k : jWP G X nL (pc + 1) ls ((0, w16 x) :: st) σ σ' r) : jWP G X nL pc ls ((0, x) :: st) σ σ' r := by
  obtain ⟨p, l, e, R, s, m, args, below, meth, c⟩ := X
  intro H locs la hR hL hs hl ha
  rw [jall_cons] at hs
  have e1 : (Int32.ofInt x).toInt16.toInt32 = Int32.ofInt (w16 x) := by exact (jo_i _).symm
  exact lv_i2s C.1 C.2.1 hd e1 (k H locs la hR hL (jall_cons.mpr ⟨jok_i.mpr (jin_t _), hs.2⟩) hl ha)
theorem jr_i2c (C : jC G X cc own nL ret d nm) {x : Int} (hd : decode cc pc = .ok (.i2c, 1)) (k : jWP G X nL (pc + 1) ls ((0, wc x) :: st) σ σ' r) : jWP G X nL pc ls ((0, x) :: st) σ σ' r := by
  obtain ⟨p, l, e, R, s, m, args, below, meth, c⟩ := X
  intro H locs la hR hL hs hl ha
  rw [jall_cons] at hs
  have e1 : ((Int32.ofInt x).toUInt32 % 65536).toInt32 = Int32.ofInt (wc x) := by exact (jo_i _).symm
  exact lv_i2c C.1 C.2.1 hd e1 (k H locs la hR hL (jall_cons.mpr ⟨jok_i.mpr (jin_t _), hs.2⟩) hl ha)
theorem jr_l2i (C : jC G X cc own nL ret d nm) {x : Int} (hd : decode cc pc = .ok (.l2i, 1)) (k : jWP G X nL (pc + 1) ls ((0, l2i x) :: st) σ σ' r) : jWP G X nL pc ls ((1, x) :: st) σ σ' r := by
  obtain ⟨p, l, e, R, s, m, args, below, meth, c⟩ := X
  intro H locs la hR hL hs hl ha
  rw [jall_cons] at hs
  have e1 : (Int64.ofInt x).toInt32 = Int32.ofInt (l2i x) := by exact (jo_i _).symm
  exact lv_l2i C.1 C.2.1 hd e1 (k H locs la hR hL (jall_cons.mpr ⟨jok_i.mpr (jin_t _), hs.2⟩) hl ha)
theorem jr_i2l (C : jC G X cc own nL ret d nm) {x : Int} (hd : decode cc pc = .ok (.i2l, 1)) (k : jWP G X nL (pc + 1) ls ((1, x) :: st) σ σ' r) : jWP G X nL pc ls ((0, x) :: st) σ σ' r := by
  obtain ⟨p, l, e, R, s, m, args, below, meth, c⟩ := X
  intro H locs la hR hL hs hl ha
  rw [jall_cons] at hs
  have e1 : (Int32.ofInt x).toInt64 = Int64.ofInt x := by exact jo_i2l (jok_i.mp hs.1)
  exact lv_i2l C.1 C.2.1 hd e1 (k H locs la hR hL (jall_cons.mpr ⟨jok_l.mpr (by have h := jok_i.mp hs.1; unfold jin at h; unfold jlin; omega), hs.2⟩) hl ha)
theorem jr_iconst (C : jC G X cc own nL ret d nm) {n : Int} (hd : decode cc pc = .ok (.iconst n, 1)) (hv : Int32.ofInt n = Int32.ofInt n) (hn : jin n) (k : jWP G X nL (pc + 1) ls ((0, n) :: st) σ σ' r) : jWP G X nL pc ls st σ σ' r := by
  obtain ⟨p, l, e, R, s, m, args, below, meth, c⟩ := X
  intro H locs la hR hL hs hl ha
  exact lv_iconst C.1 C.2.1 hd hv (k H locs la hR hL (jall_cons.mpr ⟨jok_i.mpr hn, hs⟩) hl ha)
theorem jr_bipush (C : jC G X cc own nL ret d nm) {n : Int} (hd : decode cc pc = .ok (.bipush n, 2)) (hv : (Int8.ofInt n).toInt32 = Int32.ofInt n) (hn : jin n) (k : jWP G X nL (pc + 2) ls ((0, n) :: st) σ σ' r) : jWP G X nL pc ls st σ σ' r := by
  obtain ⟨p, l, e, R, s, m, args, below, meth, c⟩ := X
  intro H locs la hR hL hs hl ha
  exact lv_bipush C.1 C.2.1 hd hv (k H locs la hR hL (jall_cons.mpr ⟨jok_i.mpr hn, hs⟩) hl ha)
theorem jr_sipush (C : jC G X cc own nL ret d nm) {n : Int} (hd : decode cc pc = .ok (.sipush n, 3)) (hv : (Int16.ofInt n).toInt32 = Int32.ofInt n) (hn : jin n) (k : jWP G X nL (pc + 3) ls ((0, n) :: st) σ σ' r) : jWP G X nL pc ls st σ σ' r := by
  obtain ⟨p, l, e, R, s, m, args, below, meth, c⟩ := X
  intro H locs la hR hL hs hl ha
  exact lv_sipush C.1 C.2.1 hd hv (k H locs la hR hL (jall_cons.mpr ⟨jok_i.mpr hn, hs⟩) hl ha)
theorem jr_lconst (C : jC G X cc own nL ret d nm) {n : Fin 2} {z : Int} (hd : decode cc pc = .ok (.lconst n, 1)) (hv : Int64.ofNat (n : Nat) = Int64.ofInt z) (hn : jlin z) (k : jWP G X nL (pc + 1) ls ((1, z) :: st) σ σ' r) : jWP G X nL pc ls st σ σ' r := by
  obtain ⟨p, l, e, R, s, m, args, below, meth, c⟩ := X
  intro H locs la hR hL hs hl ha
  exact lv_lconst C.1 C.2.1 hd hv (k H locs la hR hL (jall_cons.mpr ⟨jok_l.mpr hn, hs⟩) hl ha)
theorem jr_null (C : jC G X cc own nL ret d nm) (hd : decode cc pc = .ok (.aconst_null, 1)) (k : jWP G X nL (pc + 1) ls ((2, -1) :: st) σ σ' r) : jWP G X nL pc ls st σ σ' r := by
  obtain ⟨p, l, e, R, s, m, args, below, meth, c⟩ := X
  intro H locs la hR hL hs hl ha
  exact lv_null C.1 C.2.1 hd (k H locs la hR hL (jall_cons.mpr ⟨jok_r.mpr (by omega), hs⟩) hl ha)
theorem jr_ldc (C : jC G X cc own nL ret d nm) {index : Nat} {v : Int32} (hw : Cond.constant own index v ∈ lw_all) (hd : decode cc pc = .ok (.ldc index, 2)) {z : Int} (hz : v.toInt = z) (k : jWP G X nL (pc + 2) ls ((0, z) :: st) σ σ' r) : jWP G X nL pc ls st σ σ' r := by
  obtain ⟨p, l, e, R, s, m, args, below, meth, c⟩ := X
  intro H locs la hR hL hs hl ha
  subst hz
  refine lv_ldc C.1 C.2.1 C.2.2.2.1 (C.2.2.2.2.1 _ hw) hd ?_
  have h := k H locs la hR hL (jall_cons.mpr ⟨jok_i.mpr (jin_t v), hs⟩) hl ha
  rw [List.map_cons, jv_i, jo_i] at h
  exact h
theorem jr_ldc_w (C : jC G X cc own nL ret d nm) {index : Nat} {v : Int32} (hw : Cond.constant own index v ∈ lw_all) (hd : decode cc pc = .ok (.ldc_w index, 3)) {z : Int} (hz : v.toInt = z) (k : jWP G X nL (pc + 3) ls ((0, z) :: st) σ σ' r) : jWP G X nL pc ls st σ σ' r := by
  obtain ⟨p, l, e, R, s, m, args, below, meth, c⟩ := X
  intro H locs la hR hL hs hl ha
  subst hz
  refine lv_ldcw C.1 C.2.1 C.2.2.2.1 (C.2.2.2.2.1 _ hw) hd ?_
  have h := k H locs la hR hL (jall_cons.mpr ⟨jok_i.mpr (jin_t v), hs⟩) hl ha
  rw [List.map_cons, jv_i, jo_i] at h
  exact h
theorem jr_ldc2 (C : jC G X cc own nL ret d nm) {index : Nat} {v : Int64} (hw : Cond.constantLong own index v ∈ lw_all) (hd : decode cc pc = .ok (.ldc2_w index, 3)) {z : Int} (hz : v.toInt = z) (k : jWP G X nL (pc + 3) ls ((1, z) :: st) σ σ' r) : jWP G X nL pc ls st σ σ' r := by
  obtain ⟨p, l, e, R, s, m, args, below, meth, c⟩ := X
  intro H locs la hR hL hs hl ha
  subst hz
  refine lv_ldc2 C.1 C.2.1 C.2.2.2.1 (C.2.2.2.2.1 _ hw) hd ?_
  have h := k H locs la hR hL (jall_cons.mpr ⟨jok_l.mpr (jlin_t v), hs⟩) hl ha
  rw [List.map_cons, jv_l, jo_il] at h
  exact h
theorem jr_iload_n (C : jC G X cc own nL ret d nm) {k : Fin 4} {i : Nat} {z : Int} (hd : decode cc pc = .ok (.iload_n k, 1)) (hi : (k : Nat) = i) (q : Nat) (hq : ls[q]? = some (i, (0, z))) (k0 : jWP G X nL (pc + 1) ls ((0, z) :: st) σ σ' r) : jWP G X nL pc ls st σ σ' r := by
  obtain ⟨p, l, e, R, s, m, args, below, meth, c⟩ := X
  intro H locs la hR hL hs hl ha
  exact lv_iload_n C.1 C.2.1 hd hi (jl_at ha q hq) (k0 H locs la hR hL (jall_cons.mpr ⟨jl_ok hl hq, hs⟩) hl ha)
theorem jr_iload (C : jC G X cc own nL ret d nm) {i : Nat} {z : Int} (hd : decode cc pc = .ok (.iload i, 2)) (q : Nat) (hq : ls[q]? = some (i, (0, z))) (k0 : jWP G X nL (pc + 2) ls ((0, z) :: st) σ σ' r) : jWP G X nL pc ls st σ σ' r := by
  obtain ⟨p, l, e, R, s, m, args, below, meth, c⟩ := X
  intro H locs la hR hL hs hl ha
  exact lv_iload C.1 C.2.1 hd (jl_at ha q hq) (k0 H locs la hR hL (jall_cons.mpr ⟨jl_ok hl hq, hs⟩) hl ha)
theorem jr_lload_n (C : jC G X cc own nL ret d nm) {k : Fin 4} {i : Nat} {z : Int} (hd : decode cc pc = .ok (.lload_n k, 1)) (hi : (k : Nat) = i) (q : Nat) (hq : ls[q]? = some (i, (1, z))) (k0 : jWP G X nL (pc + 1) ls ((1, z) :: st) σ σ' r) : jWP G X nL pc ls st σ σ' r := by
  obtain ⟨p, l, e, R, s, m, args, below, meth, c⟩ := X
  intro H locs la hR hL hs hl ha
  exact lv_lload_n C.1 C.2.1 hd hi (jl_at ha q hq) (k0 H locs la hR hL (jall_cons.mpr ⟨jl_ok hl hq, hs⟩) hl ha)
theorem jr_lload (C : jC G X cc own nL ret d nm) {i : Nat} {z : Int} (hd : decode cc pc = .ok (.lload i, 2)) (q : Nat) (hq : ls[q]? = some (i, (1, z))) (k0 : jWP G X nL (pc + 2) ls ((1, z) :: st) σ σ' r) : jWP G X nL pc ls st σ σ' r := by
  obtain ⟨p, l, e, R, s, m, args, below, meth, c⟩ := X
  intro H locs la hR hL hs hl ha
  exact lv_lload C.1 C.2.1 hd (jl_at ha q hq) (k0 H locs la hR hL (jall_cons.mpr ⟨jl_ok hl hq, hs⟩) hl ha)
theorem jr_aload_n (C : jC G X cc own nL ret d nm) {k : Fin 4} {i : Nat} {z : Int} (hd : decode cc pc = .ok (.aload_n k, 1)) (hi : (k : Nat) = i) (q : Nat) (hq : ls[q]? = some (i, (2, z))) (k0 : jWP G X nL (pc + 1) ls ((2, z) :: st) σ σ' r) : jWP G X nL pc ls st σ σ' r := by
  obtain ⟨p, l, e, R, s, m, args, below, meth, c⟩ := X
  intro H locs la hR hL hs hl ha
  have hok := jl_ok hl hq
  have hat := jl_at ha q hq
  have h := k0 H locs la hR hL (jall_cons.mpr ⟨hok, hs⟩) hl ha
  rw [List.map_cons] at h
  by_cases hz : z < 0
  · have hz1 : z = -1 := by have := jok_r.mp hok; omega
    subst hz1
    exact lv_aload_nN C.1 C.2.1 hd hi hat h
  · rw [jv_r (by omega)] at hat h
    exact lv_aload_n C.1 C.2.1 hd hi hat h
theorem jr_aload (C : jC G X cc own nL ret d nm) {i : Nat} {z : Int} (hd : decode cc pc = .ok (.aload i, 2)) (q : Nat) (hq : ls[q]? = some (i, (2, z))) (k0 : jWP G X nL (pc + 2) ls ((2, z) :: st) σ σ' r) : jWP G X nL pc ls st σ σ' r := by
  obtain ⟨p, l, e, R, s, m, args, below, meth, c⟩ := X
  intro H locs la hR hL hs hl ha
  have hok := jl_ok hl hq
  have hat := jl_at ha q hq
  have h := k0 H locs la hR hL (jall_cons.mpr ⟨hok, hs⟩) hl ha
  rw [List.map_cons] at h
  by_cases hz : z < 0
  · have hz1 : z = -1 := by have := jok_r.mp hok; omega
    subst hz1
    exact lv_aloadN C.1 C.2.1 hd hat h
  · rw [jv_r (by omega)] at hat h
    exact lv_aload C.1 C.2.1 hd hat h
theorem jr_istore_n (C : jC G X cc own nL ret d nm) {k : Fin 4} {i : Nat} {z : Int} {ls' : List (Nat × jT)} (hd : decode cc pc = .ok (.istore_n k, 1)) (hi : (k : Nat) = i) (hn : i < nL) (hls : jst1 i (0, z) ls = ls') (k0 : jWP G X nL (pc + 1) ls' st σ σ' r) : jWP G X nL pc ls ((0, z) :: st) σ σ' r := by
  obtain ⟨p, l, e, R, s, m, args, below, meth, c⟩ := X
  intro H locs la hR hL hs hl ha
  rw [jall_cons] at hs
  subst hls
  exact lv_istore_n C.1 C.2.1 hd hi ha hn (jst1_map (i := i) (v := (0, z)) hl) (fun la' ha' => k0 H locs la' hR hL hs.2 (jst1_ok hs.1 hl) ha')
theorem jr_istore (C : jC G X cc own nL ret d nm) {i : Nat} {z : Int} {ls' : List (Nat × jT)} (hd : decode cc pc = .ok (.istore i, 2)) (hn : i < nL) (hls : jst1 i (0, z) ls = ls') (k0 : jWP G X nL (pc + 2) ls' st σ σ' r) : jWP G X nL pc ls ((0, z) :: st) σ σ' r := by
  obtain ⟨p, l, e, R, s, m, args, below, meth, c⟩ := X
  intro H locs la hR hL hs hl ha
  rw [jall_cons] at hs
  subst hls
  exact lv_istore C.1 C.2.1 hd ha hn (jst1_map (i := i) (v := (0, z)) hl) (fun la' ha' => k0 H locs la' hR hL hs.2 (jst1_ok hs.1 hl) ha')
theorem jr_lstore_n (C : jC G X cc own nL ret d nm) {k : Fin 4} {i : Nat} {z : Int} {ls' : List (Nat × jT)} (hd : decode cc pc = .ok (.lstore_n k, 1)) (hi : (k : Nat) = i) (hn : i + 1 < nL) (hls : jst2 i (1, z) ls = ls') (k0 : jWP G X nL (pc + 1) ls' st σ σ' r) : jWP G X nL pc ls ((1, z) :: st) σ σ' r := by
  obtain ⟨p, l, e, R, s, m, args, below, meth, c⟩ := X
  intro H locs la hR hL hs hl ha
  rw [jall_cons] at hs
  subst hls
  exact lv_lstore_n C.1 C.2.1 hd hi ha hn (jst2_map (i := i) (v := (1, z)) hl) (fun la' ha' => k0 H locs la' hR hL hs.2 (jst2_ok hs.1 hl) ha')
theorem jr_lstore (C : jC G X cc own nL ret d nm) {i : Nat} {z : Int} {ls' : List (Nat × jT)} (hd : decode cc pc = .ok (.lstore i, 2)) (hn : i + 1 < nL) (hls : jst2 i (1, z) ls = ls') (k0 : jWP G X nL (pc + 2) ls' st σ σ' r) : jWP G X nL pc ls ((1, z) :: st) σ σ' r := by
  obtain ⟨p, l, e, R, s, m, args, below, meth, c⟩ := X
  intro H locs la hR hL hs hl ha
  rw [jall_cons] at hs
  subst hls
  exact lv_lstore C.1 C.2.1 hd ha hn (jst2_map (i := i) (v := (1, z)) hl) (fun la' ha' => k0 H locs la' hR hL hs.2 (jst2_ok hs.1 hl) ha')
theorem jr_astore_n (C : jC G X cc own nL ret d nm) {k : Fin 4} {i : Nat} {z : Int} {ls' : List (Nat × jT)} (hd : decode cc pc = .ok (.astore_n k, 1)) (hi : (k : Nat) = i) (hn : i < nL) (hls : jst1 i (2, z) ls = ls') (k0 : jWP G X nL (pc + 1) ls' st σ σ' r) : jWP G X nL pc ls ((2, z) :: st) σ σ' r := by
  obtain ⟨p, l, e, R, s, m, args, below, meth, c⟩ := X
  intro H locs la hR hL hs hl ha
  rw [jall_cons] at hs
  subst hls
  have hm := jst1_map (i := i) (v := (2, z)) hl
  rw [List.map_cons]
  by_cases hz : z < 0
  · have hz1 : z = -1 := by have := jok_r.mp hs.1; omega
    subst hz1
    exact lv_astore_nN C.1 C.2.1 hd hi ha hn hm (fun la' ha' => k0 H locs la' hR hL hs.2 (jst1_ok hs.1 hl) ha')
  · rw [jv_r (by omega)] at hm ⊢
    exact lv_astore_n C.1 C.2.1 hd hi ha hn hm (fun la' ha' => k0 H locs la' hR hL hs.2 (jst1_ok hs.1 hl) ha')
theorem jr_astore (C : jC G X cc own nL ret d nm) {i : Nat} {z : Int} {ls' : List (Nat × jT)} (hd : decode cc pc = .ok (.astore i, 2)) (hn : i < nL) (hls : jst1 i (2, z) ls = ls') (k0 : jWP G X nL (pc + 2) ls' st σ σ' r) : jWP G X nL pc ls ((2, z) :: st) σ σ' r := by
  obtain ⟨p, l, e, R, s, m, args, below, meth, c⟩ := X
  intro H locs la hR hL hs hl ha
  rw [jall_cons] at hs
  subst hls
  have hm := jst1_map (i := i) (v := (2, z)) hl
  rw [List.map_cons]
  by_cases hz : z < 0
  · have hz1 : z = -1 := by have := jok_r.mp hs.1; omega
    subst hz1
    exact lv_astoreN C.1 C.2.1 hd ha hn hm (fun la' ha' => k0 H locs la' hR hL hs.2 (jst1_ok hs.1 hl) ha')
  · rw [jv_r (by omega)] at hm ⊢
    exact lv_astore C.1 C.2.1 hd ha hn hm (fun la' ha' => k0 H locs la' hR hL hs.2 (jst1_ok hs.1 hl) ha')
theorem jr_iinc (C : jC G X cc own nL ret d nm) {i : Nat} {n z : Int} {ls' : List (Nat × jT)} (hd : decode cc pc = .ok (.iinc i n, 3)) (q : Nat) (hq : ls[q]? = some (i, (0, z))) (hn : i < nL) (hls : jst1 i (0, w32 (z + n)) ls = ls') (k0 : jWP G X nL (pc + 3) ls' st σ σ' r) : jWP G X nL pc ls st σ σ' r := by
  obtain ⟨p, l, e, R, s, m, args, below, meth, c⟩ := X
  intro H locs la hR hL hs hl ha
  subst hls
  exact lv_iinc C.1 C.2.1 hd ha (k := q) (by rw [List.getElem?_map, hq]; rfl) (jo_add z n) hn (jst1_map (i := i) (v := (0, w32 (z + n))) hl) (fun la' ha' => k0 H locs la' hR hL hs (jst1_ok (jok_i.mpr (jin_w _)) hl) ha')
theorem jcat1 {v : jT} (h : jok v) (hv : ¬ v.1 = 1) : (jv v).category = 1 := by
  have hc := jcat h
  rcases lv_cat (jv v) with q | q
  · exact q
  · rw [q] at hc
    exact absurd (by simpa using hc.symm) hv
theorem jr_pop (C : jC G X cc own nL ret d nm) {v : jT} (hd : decode cc pc = .ok (.pop, 1)) (hv : ¬ v.1 = 1) (k : jWP G X nL (pc + 1) ls st σ σ' r) : jWP G X nL pc ls (v :: st) σ σ' r := by
  obtain ⟨p, l, e, R, s, m, args, below, meth, c⟩ := X
  intro H locs la hR hL hs hl ha
  rw [jall_cons] at hs
  exact lv_pop C.1 C.2.1 hd (jcat1 hs.1 hv) (k H locs la hR hL hs.2 hl ha)
theorem jr_dup (C : jC G X cc own nL ret d nm) {v : jT} (hd : decode cc pc = .ok (.dup, 1)) (hv : ¬ v.1 = 1) (k : jWP G X nL (pc + 1) ls (v :: v :: st) σ σ' r) : jWP G X nL pc ls (v :: st) σ σ' r := by
  obtain ⟨p, l, e, R, s, m, args, below, meth, c⟩ := X
  intro H locs la hR hL hs hl ha
  have hs' := jall_cons.mp hs
  exact lv_dup C.1 C.2.1 hd (jcat1 hs'.1 hv) (k H locs la hR hL (jall_cons.mpr ⟨hs'.1, hs⟩) hl ha)
theorem jr_dup_x1 (C : jC G X cc own nL ret d nm) {v w : jT} (hd : decode cc pc = .ok (.dup_x1, 1)) (hv : ¬ v.1 = 1) (hw : ¬ w.1 = 1) (k : jWP G X nL (pc + 1) ls (v :: w :: v :: st) σ σ' r) : jWP G X nL pc ls (v :: w :: st) σ σ' r := by
  obtain ⟨p, l, e, R, s, m, args, below, meth, c⟩ := X
  intro H locs la hR hL hs hl ha
  rw [jall_cons, jall_cons] at hs
  exact lv_dup_x1 C.1 C.2.1 hd (jcat1 hs.1 hv) (jcat1 hs.2.1 hw) (k H locs la hR hL (jall_cons.mpr ⟨hs.1, jall_cons.mpr ⟨hs.2.1, jall_cons.mpr ⟨hs.1, hs.2.2⟩⟩⟩) hl ha)
theorem jr_dup2 (C : jC G X cc own nL ret d nm) {v w : jT} (hd : decode cc pc = .ok (.dup2, 1)) (hv : ¬ v.1 = 1) (hw : ¬ w.1 = 1) (k : jWP G X nL (pc + 1) ls (v :: w :: v :: w :: st) σ σ' r) : jWP G X nL pc ls (v :: w :: st) σ σ' r := by
  obtain ⟨p, l, e, R, s, m, args, below, meth, c⟩ := X
  intro H locs la hR hL hs hl ha
  rw [jall_cons, jall_cons] at hs
  exact lv_dup2_11 C.1 C.2.1 hd (jcat1 hs.1 hv) (jcat1 hs.2.1 hw) (k H locs la hR hL (jall_cons.mpr ⟨hs.1, jall_cons.mpr ⟨hs.2.1, jall_cons.mpr ⟨hs.1, jall_cons.mpr ⟨hs.2.1, hs.2.2⟩⟩⟩⟩) hl ha)
theorem jr_if_eq (C : jC G X cc own nL ret d nm) {x : Int} {off : Int} {tgt : Nat} (hd : decode cc pc = .ok (.ifCond .eq off, 3)) (ht : (pc : Int) + off = (tgt : Int)) (kt : x = 0 → jWP G X nL tgt ls st σ σ' r) (kf : ¬ (x = 0) → jWP G X nL (pc + 3) ls st σ σ' r) : jWP G X nL pc ls ((0, x) :: st) σ σ' r := by
  obtain ⟨p, l, e, R, s, m, args, below, meth, c⟩ := X
  intro H locs la hR hL hs hl ha
  rw [jall_cons] at hs
  have hx := jok_i.mp hs.1
  have e1 := jo_eq hx jin_0
  exact lv_if_eq C.1 C.2.1 hd ht (fun h => kt (e1.mp h) H locs la hR hL hs.2 hl ha) (fun h => kf (fun q => h (e1.mpr q)) H locs la hR hL hs.2 hl ha)
theorem jr_icmp_eq (C : jC G X cc own nL ret d nm) {x y : Int} {off : Int} {tgt : Nat} (hd : decode cc pc = .ok (.if_icmp .eq off, 3)) (ht : (pc : Int) + off = (tgt : Int)) (kt : x = y → jWP G X nL tgt ls st σ σ' r) (kf : ¬ (x = y) → jWP G X nL (pc + 3) ls st σ σ' r) : jWP G X nL pc ls ((0, y) :: (0, x) :: st) σ σ' r := by
  obtain ⟨p, l, e, R, s, m, args, below, meth, c⟩ := X
  intro H locs la hR hL hs hl ha
  rw [jall_cons, jall_cons] at hs
  have hx := jok_i.mp hs.2.1
  have hy := jok_i.mp hs.1
  have e1 := jo_eq hx hy
  exact lv_icmp_eq C.1 C.2.1 hd ht (fun h => kt (e1.mp h) H locs la hR hL hs.2.2 hl ha) (fun h => kf (fun q => h (e1.mpr q)) H locs la hR hL hs.2.2 hl ha)
theorem jr_if_ne (C : jC G X cc own nL ret d nm) {x : Int} {off : Int} {tgt : Nat} (hd : decode cc pc = .ok (.ifCond .ne off, 3)) (ht : (pc : Int) + off = (tgt : Int)) (kt : ¬ x = 0 → jWP G X nL tgt ls st σ σ' r) (kf : x = 0 → jWP G X nL (pc + 3) ls st σ σ' r) : jWP G X nL pc ls ((0, x) :: st) σ σ' r := by
  obtain ⟨p, l, e, R, s, m, args, below, meth, c⟩ := X
  intro H locs la hR hL hs hl ha
  rw [jall_cons] at hs
  have hx := jok_i.mp hs.1
  have e1 := not_congr (jo_eq hx jin_0)
  exact lv_if_ne C.1 C.2.1 hd ht (fun h => kt (e1.mp h) H locs la hR hL hs.2 hl ha) (fun h => kf ((jo_eq hx jin_0).mp h) H locs la hR hL hs.2 hl ha)
theorem jr_icmp_ne (C : jC G X cc own nL ret d nm) {x y : Int} {off : Int} {tgt : Nat} (hd : decode cc pc = .ok (.if_icmp .ne off, 3)) (ht : (pc : Int) + off = (tgt : Int)) (kt : ¬ x = y → jWP G X nL tgt ls st σ σ' r) (kf : x = y → jWP G X nL (pc + 3) ls st σ σ' r) : jWP G X nL pc ls ((0, y) :: (0, x) :: st) σ σ' r := by
  obtain ⟨p, l, e, R, s, m, args, below, meth, c⟩ := X
  intro H locs la hR hL hs hl ha
  rw [jall_cons, jall_cons] at hs
  have hx := jok_i.mp hs.2.1
  have hy := jok_i.mp hs.1
  have e1 := not_congr (jo_eq hx hy)
  exact lv_icmp_ne C.1 C.2.1 hd ht (fun h => kt (e1.mp h) H locs la hR hL hs.2.2 hl ha) (fun h => kf ((jo_eq hx hy).mp h) H locs la hR hL hs.2.2 hl ha)
theorem jr_if_lt (C : jC G X cc own nL ret d nm) {x : Int} {off : Int} {tgt : Nat} (hd : decode cc pc = .ok (.ifCond .lt off, 3)) (ht : (pc : Int) + off = (tgt : Int)) (kt : x < 0 → jWP G X nL tgt ls st σ σ' r) (kf : ¬ (x < 0) → jWP G X nL (pc + 3) ls st σ σ' r) : jWP G X nL pc ls ((0, x) :: st) σ σ' r := by
  obtain ⟨p, l, e, R, s, m, args, below, meth, c⟩ := X
  intro H locs la hR hL hs hl ha
  rw [jall_cons] at hs
  have hx := jok_i.mp hs.1
  have e1 := jo_lt hx jin_0
  exact lv_if_lt C.1 C.2.1 hd ht (fun h => kt (e1.mp h) H locs la hR hL hs.2 hl ha) (fun h => kf (fun q => h (e1.mpr q)) H locs la hR hL hs.2 hl ha)
theorem jr_icmp_lt (C : jC G X cc own nL ret d nm) {x y : Int} {off : Int} {tgt : Nat} (hd : decode cc pc = .ok (.if_icmp .lt off, 3)) (ht : (pc : Int) + off = (tgt : Int)) (kt : x < y → jWP G X nL tgt ls st σ σ' r) (kf : ¬ (x < y) → jWP G X nL (pc + 3) ls st σ σ' r) : jWP G X nL pc ls ((0, y) :: (0, x) :: st) σ σ' r := by
  obtain ⟨p, l, e, R, s, m, args, below, meth, c⟩ := X
  intro H locs la hR hL hs hl ha
  rw [jall_cons, jall_cons] at hs
  have hx := jok_i.mp hs.2.1
  have hy := jok_i.mp hs.1
  have e1 := jo_lt hx hy
  exact lv_icmp_lt C.1 C.2.1 hd ht (fun h => kt (e1.mp h) H locs la hR hL hs.2.2 hl ha) (fun h => kf (fun q => h (e1.mpr q)) H locs la hR hL hs.2.2 hl ha)
theorem jr_if_ge (C : jC G X cc own nL ret d nm) {x : Int} {off : Int} {tgt : Nat} (hd : decode cc pc = .ok (.ifCond .ge off, 3)) (ht : (pc : Int) + off = (tgt : Int)) (kt : 0 ≤ x → jWP G X nL tgt ls st σ σ' r) (kf : ¬ (0 ≤ x) → jWP G X nL (pc + 3) ls st σ σ' r) : jWP G X nL pc ls ((0, x) :: st) σ σ' r := by
  obtain ⟨p, l, e, R, s, m, args, below, meth, c⟩ := X
  intro H locs la hR hL hs hl ha
  rw [jall_cons] at hs
  have hx := jok_i.mp hs.1
  have e1 := jo_le jin_0 hx
  exact lv_if_ge C.1 C.2.1 hd ht (fun h => kt (e1.mp h) H locs la hR hL hs.2 hl ha) (fun h => kf (fun q => h (e1.mpr q)) H locs la hR hL hs.2 hl ha)
theorem jr_icmp_ge (C : jC G X cc own nL ret d nm) {x y : Int} {off : Int} {tgt : Nat} (hd : decode cc pc = .ok (.if_icmp .ge off, 3)) (ht : (pc : Int) + off = (tgt : Int)) (kt : y ≤ x → jWP G X nL tgt ls st σ σ' r) (kf : ¬ (y ≤ x) → jWP G X nL (pc + 3) ls st σ σ' r) : jWP G X nL pc ls ((0, y) :: (0, x) :: st) σ σ' r := by
  obtain ⟨p, l, e, R, s, m, args, below, meth, c⟩ := X
  intro H locs la hR hL hs hl ha
  rw [jall_cons, jall_cons] at hs
  have hx := jok_i.mp hs.2.1
  have hy := jok_i.mp hs.1
  have e1 := jo_le hy hx
  exact lv_icmp_ge C.1 C.2.1 hd ht (fun h => kt (e1.mp h) H locs la hR hL hs.2.2 hl ha) (fun h => kf (fun q => h (e1.mpr q)) H locs la hR hL hs.2.2 hl ha)
theorem jr_if_gt (C : jC G X cc own nL ret d nm) {x : Int} {off : Int} {tgt : Nat} (hd : decode cc pc = .ok (.ifCond .gt off, 3)) (ht : (pc : Int) + off = (tgt : Int)) (kt : 0 < x → jWP G X nL tgt ls st σ σ' r) (kf : ¬ (0 < x) → jWP G X nL (pc + 3) ls st σ σ' r) : jWP G X nL pc ls ((0, x) :: st) σ σ' r := by
  obtain ⟨p, l, e, R, s, m, args, below, meth, c⟩ := X
  intro H locs la hR hL hs hl ha
  rw [jall_cons] at hs
  have hx := jok_i.mp hs.1
  have e1 := jo_lt jin_0 hx
  exact lv_if_gt C.1 C.2.1 hd ht (fun h => kt (e1.mp h) H locs la hR hL hs.2 hl ha) (fun h => kf (fun q => h (e1.mpr q)) H locs la hR hL hs.2 hl ha)
theorem jr_icmp_gt (C : jC G X cc own nL ret d nm) {x y : Int} {off : Int} {tgt : Nat} (hd : decode cc pc = .ok (.if_icmp .gt off, 3)) (ht : (pc : Int) + off = (tgt : Int)) (kt : y < x → jWP G X nL tgt ls st σ σ' r) (kf : ¬ (y < x) → jWP G X nL (pc + 3) ls st σ σ' r) : jWP G X nL pc ls ((0, y) :: (0, x) :: st) σ σ' r := by
  obtain ⟨p, l, e, R, s, m, args, below, meth, c⟩ := X
  intro H locs la hR hL hs hl ha
  rw [jall_cons, jall_cons] at hs
  have hx := jok_i.mp hs.2.1
  have hy := jok_i.mp hs.1
  have e1 := jo_lt hy hx
  exact lv_icmp_gt C.1 C.2.1 hd ht (fun h => kt (e1.mp h) H locs la hR hL hs.2.2 hl ha) (fun h => kf (fun q => h (e1.mpr q)) H locs la hR hL hs.2.2 hl ha)
theorem jr_if_le (C : jC G X cc own nL ret d nm) {x : Int} {off : Int} {tgt : Nat} (hd : decode cc pc = .ok (.ifCond .le off, 3)) (ht : (pc : Int) + off = (tgt : Int)) (kt : x ≤ 0 → jWP G X nL tgt ls st σ σ' r) (kf : ¬ (x ≤ 0) → jWP G X nL (pc + 3) ls st σ σ' r) : jWP G X nL pc ls ((0, x) :: st) σ σ' r := by
  obtain ⟨p, l, e, R, s, m, args, below, meth, c⟩ := X
  intro H locs la hR hL hs hl ha
  rw [jall_cons] at hs
  have hx := jok_i.mp hs.1
  have e1 := jo_le hx jin_0
  exact lv_if_le C.1 C.2.1 hd ht (fun h => kt (e1.mp h) H locs la hR hL hs.2 hl ha) (fun h => kf (fun q => h (e1.mpr q)) H locs la hR hL hs.2 hl ha)
theorem jr_icmp_le (C : jC G X cc own nL ret d nm) {x y : Int} {off : Int} {tgt : Nat} (hd : decode cc pc = .ok (.if_icmp .le off, 3)) (ht : (pc : Int) + off = (tgt : Int)) (kt : x ≤ y → jWP G X nL tgt ls st σ σ' r) (kf : ¬ (x ≤ y) → jWP G X nL (pc + 3) ls st σ σ' r) : jWP G X nL pc ls ((0, y) :: (0, x) :: st) σ σ' r := by
  obtain ⟨p, l, e, R, s, m, args, below, meth, c⟩ := X
  intro H locs la hR hL hs hl ha
  rw [jall_cons, jall_cons] at hs
  have hx := jok_i.mp hs.2.1
  have hy := jok_i.mp hs.1
  have e1 := jo_le hx hy
  exact lv_icmp_le C.1 C.2.1 hd ht (fun h => kt (e1.mp h) H locs la hR hL hs.2.2 hl ha) (fun h => kf (fun q => h (e1.mpr q)) H locs la hR hL hs.2.2 hl ha)
theorem jr_goto (C : jC G X cc own nL ret d nm) {off : Int} {tgt : Nat} (hd : decode cc pc = .ok (.goto off, 3)) (ht : (pc : Int) + off = (tgt : Int)) (k : jWP G X nL tgt ls st σ σ' r) : jWP G X nL pc ls st σ σ' r := by
  obtain ⟨p, l, e, R, s, m, args, below, meth, c⟩ := X
  intro H locs la hR hL hs hl ha
  exact lv_goto C.1 C.2.1 hd ht (k H locs la hR hL hs hl ha)
theorem jr_ifnull (C : jC G X cc own nL ret d nm) {z : Int} {off : Int} {tgt : Nat} (hd : decode cc pc = .ok (.ifnull off, 3)) (ht : (pc : Int) + off = (tgt : Int)) (kt : z < 0 → jWP G X nL tgt ls st σ σ' r) (kf : ¬ (z < 0) → jWP G X nL (pc + 3) ls st σ σ' r) : jWP G X nL pc ls ((2, z) :: st) σ σ' r := by
  obtain ⟨p, l, e, R, s, m, args, below, meth, c⟩ := X
  intro H locs la hR hL hs hl ha
  rw [jall_cons] at hs
  rw [List.map_cons]
  by_cases hz : z < 0
  · have hz1 : z = -1 := by have := jok_r.mp hs.1; omega
    subst hz1
    exact lv_ifnullN C.1 C.2.1 hd ht (kt (by omega) H locs la hR hL hs.2 hl ha)
  · rw [jv_r (by omega)]
    exact lv_ifnull C.1 C.2.1 hd (kf hz H locs la hR hL hs.2 hl ha)
theorem jr_ifnonnull (C : jC G X cc own nL ret d nm) {z : Int} {off : Int} {tgt : Nat} (hd : decode cc pc = .ok (.ifnonnull off, 3)) (ht : (pc : Int) + off = (tgt : Int)) (kt : 0 ≤ z → jWP G X nL tgt ls st σ σ' r) (kf : ¬ (0 ≤ z) → jWP G X nL (pc + 3) ls st σ σ' r) : jWP G X nL pc ls ((2, z) :: st) σ σ' r := by
  obtain ⟨p, l, e, R, s, m, args, below, meth, c⟩ := X
  intro H locs la hR hL hs hl ha
  rw [jall_cons] at hs
  rw [List.map_cons]
  by_cases hz : z < 0
  · have hz1 : z = -1 := by have := jok_r.mp hs.1; omega
    subst hz1
    exact lv_ifnonnullN C.1 C.2.1 hd (kf (by omega) H locs la hR hL hs.2 hl ha)
  · rw [jv_r (by omega)]
    exact lv_ifnonnull C.1 C.2.1 hd ht (kt (by omega) H locs la hR hL hs.2 hl ha)
end jRules
