/-! an array of three byte arrays -/
section jMna
theorem jwp_newArray {E : CtlPost} {e : Env} {d : Bool} {acts : List Action} {s : State} {c comp : ClassId} {k : Class} {ty : FieldType} {len : Nat} {v : Value} {Q : Addr → Pre} (hk : s.vm.classes[c]? = some k) (hkind : k.kind = .array comp ty)
    (hl : len ≤ e.platform.arrayLengthLimit) (hb : len * componentBytes ty ≤ e.platform.maxHeapBytes) (hfit : fits ty v = true) (hdef : v.isDefault = true) (h1 : s.heap.size + 1 ≤ e.platform.maxCells) (h2 : s.slotsUsed + len ≤ e.platform.maxSlots)
    (hq : Q s.heap.size d acts (s.pushCell { cls := c, slots := Array.replicate len v, vm := .none })) : wp (Jvm.newArray c len v) Q E e d acts s := by
  have g1 : ∀ i w, (Array.replicate len v)[i]? = some w → s.fitsSlot c .none i w = true := by
    intro i w hw
    rw [Array.getElem?_replicate] at hw
    by_cases hi : i < len
    · rw [if_pos hi] at hw; cases hw; simp [State.fitsSlot, State.slotType?, hk, hkind, hfit]
    · rw [if_neg hi] at hw; cases hw
  have g2 : allocActs (Array.replicate len v) s.heap.size acts = acts := by
    unfold allocActs
    rw [if_pos]
    rw [Array.all_replicate]; split <;> simp [hdef]
  simp only [Jvm.newArray, Jvm.arrayFits, wp_bind', W.ask, W.ite, wp_pure', W.theClass, hk, hkind, W.alloc, W.stop, Option.some.injEq, exists_eq_left', Array.size_replicate, g2]
  repeat rw [if_neg (by omega)]
  exact ⟨by omega, h2, g1, hq⟩
theorem jwp_make1 {E : CtlPost} {e : Env} {d : Bool} {acts : List Action} {s : State} {c comp : ClassId} {k : Class} {n : Int32} {Q : Addr → Pre} (hk : s.vm.classes[c]? = some k) (hkind : k.kind = .array comp .byte) (hn : ¬ n < 0)
    (hl : n.toNatClampNeg ≤ e.platform.arrayLengthLimit) (hb : n.toNatClampNeg * 1 ≤ e.platform.maxHeapBytes) (h1 : s.heap.size + 1 ≤ e.platform.maxCells) (h2 : s.slotsUsed + n.toNatClampNeg ≤ e.platform.maxSlots)
    (hq : Q s.heap.size d acts (s.pushCell { cls := c, slots := Array.replicate n.toNatClampNeg (.int 0), vm := .none })) : wp (multianewarray.make c [n]) Q E e d acts s := by
  rw [multianewarray.make]
  simp only [wp_bind', W.ite, hn, if_false, wp_pure', W.theClass, hk, hkind, Option.some.injEq, exists_eq_left']
  exact jwp_newArray hk hkind hl hb rfl rfl h1 h2 hq
def jO0 (c : ClassId) : Cell := { cls := c, slots := Array.replicate 3 .null, vm := .none }
def jI0 (c : ClassId) (n : Nat) : Cell := { cls := c, slots := Array.replicate n (.int 0), vm := .none }
def jf1 (s : State) (c : ClassId) : State := s.pushCell (jO0 c)
def jf2 (s : State) (c comp : ClassId) (n : Nat) : State := ((jf1 s c).pushCell (jI0 comp n)).setCell s.heap.size ((jO0 c).setSlot 0 (.ref (s.heap.size + 1)))
def jf3 (s : State) (c comp : ClassId) (n : Nat) : State := ((jf2 s c comp n).pushCell (jI0 comp n)).setCell s.heap.size (((jO0 c).setSlot 0 (.ref (s.heap.size + 1))).setSlot 1 (.ref (s.heap.size + 2)))
def jf4 (s : State) (c comp : ClassId) (n : Nat) : State := ((jf3 s c comp n).pushCell (jI0 comp n)).setCell s.heap.size ((((jO0 c).setSlot 0 (.ref (s.heap.size + 1))).setSlot 1 (.ref (s.heap.size + 2))).setSlot 2 (.ref (s.heap.size + 3)))
theorem jpush_f {s : State} {cell : Cell} {o : Cell} {a : Nat} (h : s.heap[a]? = some o) : (s.pushCell cell).heap[a]? = some o := by
  rw [State.heap_pushCell_of_lt (h := (Array.getElem?_eq_some_iff.mp h).1)]; exact h
theorem jf_facts (s : State) (c comp : ClassId) (n : Nat) : ((jf1 s c).heap.size = s.heap.size + 1 ∧ (jf1 s c).vm = s.vm ∧ (jf1 s c).slotsUsed = s.slotsUsed + 3 ∧ (jf1 s c).heap[s.heap.size]? = some (jO0 c)) ∧
    ((jf2 s c comp n).heap.size = s.heap.size + 2 ∧ (jf2 s c comp n).vm = s.vm ∧ (jf2 s c comp n).slotsUsed = s.slotsUsed + 3 + n ∧ (jf2 s c comp n).heap[s.heap.size]? = some ((jO0 c).setSlot 0 (.ref (s.heap.size + 1)))) ∧
    ((jf3 s c comp n).heap.size = s.heap.size + 3 ∧ (jf3 s c comp n).vm = s.vm ∧ (jf3 s c comp n).slotsUsed = s.slotsUsed + 3 + n + n ∧ (jf3 s c comp n).heap[s.heap.size]? = some (((jO0 c).setSlot 0 (.ref (s.heap.size + 1))).setSlot 1 (.ref (s.heap.size + 2)))) := by
  have a1 : (jf1 s c).heap.size = s.heap.size + 1 ∧ (jf1 s c).vm = s.vm ∧ (jf1 s c).slotsUsed = s.slotsUsed + 3 ∧ (jf1 s c).heap[s.heap.size]? = some (jO0 c) := ⟨by simp [jf1], rfl, by simp [jf1, jO0], by simp [jf1]⟩
  have a2 : (jf2 s c comp n).heap.size = s.heap.size + 2 ∧ (jf2 s c comp n).vm = s.vm ∧ (jf2 s c comp n).slotsUsed = s.slotsUsed + 3 + n ∧ (jf2 s c comp n).heap[s.heap.size]? = some ((jO0 c).setSlot 0 (.ref (s.heap.size + 1))) :=
    ⟨by simp [jf2, State.setCell, a1.1], by simp [jf2, a1.2.1], by simp [jf2, a1.2.2.1, jI0], State.heap_setCell_self (jpush_f a1.2.2.2)⟩
  exact ⟨a1, a2, by simp [jf3, State.setCell, a2.1], by simp [jf3, a2.2.1], by simp [jf3, a2.2.2.1, jI0], State.heap_setCell_self (jpush_f a2.2.2.2)⟩
theorem jwp_make3 {E : CtlPost} {e : Env} {d : Bool} {acts : List Action} {s : State} {c comp c2 : ClassId} {k kc : Class} {n : Int32} {Q : Addr → Pre} (hk : s.vm.classes[c]? = some k) (hkind : k.kind = .array comp (.array .byte)) (hkc : s.vm.classes[comp]? = some kc) (hkindc : kc.kind = .array c2 .byte) (hn : ¬ n < 0)
    (hl : n.toNatClampNeg ≤ e.platform.arrayLengthLimit) (hb : n.toNatClampNeg * 1 ≤ e.platform.maxHeapBytes) (hl3 : 3 ≤ e.platform.arrayLengthLimit) (hb3 : 3 * 4 ≤ e.platform.maxHeapBytes) (h1 : s.heap.size + 4 ≤ e.platform.maxCells) (h2 : s.slotsUsed + (3 + 3 * n.toNatClampNeg) ≤ e.platform.maxSlots)
    (hq : ∀ d acts, Q s.heap.size d acts (jf4 s c comp n.toNatClampNeg)) : wp (multianewarray.make c [3, n]) Q E e d acts s := by
  obtain ⟨⟨a1, a2, a3, a4⟩, ⟨b1, b2, b3, b4⟩, ⟨c1, c2', c3, c4⟩⟩ := jf_facts s c comp n.toNatClampNeg
  have hfit : ∀ (u : State) (i : Nat) (x : Addr), u.vm = s.vm → u.fitsSlot c .none i (.ref x) = true := fun u i x hu => by simp [State.fitsSlot, State.slotType?, hu, hk, hkind, fits]
  rw [multianewarray.make]
  have h30 : ¬ ((3 : Int32) < 0) := by decide
  have h3n : (3 : Int32).toNatClampNeg = 3 := by decide
  have h3z : ((3 : Int32) == 0) = false := by decide
  simp only [wp_bind', W.ite, h30, if_false, wp_pure', W.theClass, hk, hkind, Option.some.injEq, exists_eq_left', h3n, h3z]
  refine jwp_newArray hk hkind hl3 hb3 rfl rfl (by omega) (by omega) ?_
  rw [if_neg (by decide), wp_bind']
  show wp (forIn ([:3] : Std.Legacy.Range) PUnit.unit _) _ E e d acts (jf1 s c)
  rw [Std.Legacy.Range.forIn_eq_forIn_range']
  simp only [Std.Legacy.Range.size, List.range', Nat.reduceSub, Nat.reduceAdd, Nat.reduceDiv, List.forIn_cons, List.forIn_nil, wp_bind', wp_pure']
  refine jwp_make1 (by rw [a2]; exact hkc) hkindc hn hl hb (by omega) (by omega) ?_
  simp only [wp_bind', W.writeLoc, wp_pure']
  refine ⟨jO0 c, jpush_f a4, by simp [jO0], by simp [jO0], hfit _ _ _ a2, ?_⟩
  rw [a1]
  refine jwp_make1 (s := jf2 s c comp n.toNatClampNeg) (by rw [b2]; exact hkc) hkindc hn hl hb (by omega) (by omega) ?_
  simp only [wp_bind', W.writeLoc, wp_pure']
  refine ⟨_, jpush_f b4, by simp [jO0, Cell.setSlot], by simp [jO0, Cell.setSlot], hfit _ _ _ b2, ?_⟩
  rw [b1]
  refine jwp_make1 (s := jf3 s c comp n.toNatClampNeg) (by rw [c2']; exact hkc) hkindc hn hl hb (by omega) (by omega) ?_
  simp only [wp_bind', W.writeLoc, wp_pure']
  refine ⟨_, jpush_f c4, by simp [jO0, Cell.setSlot], by simp [jO0, Cell.setSlot], hfit _ _ _ c2', ?_⟩
  rw [c1]
  exact hq _ _
end jMna
