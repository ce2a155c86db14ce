section jMna2
variable {G : jG} {X : jX} {l : Launch} {cc : ByteArray} {own nm : String} {nL d pc : Nat} {ret : Option FieldType} {ls : List (Nat × jT)} {st : List jT} {σ σ' : jS} {r : jT}
/-- the outer array, then each inner one and its place -/
def jmn1 (σ : jS) (a i n : Int) : jS := jput (jmk σ 1001 n (fun _ => 0) n) a i (jn σ)
def jmn (σ : jS) (n : Int) : jS := jmn1 (jmn1 (jmn1 (jmk σ 1006 3 (fun _ => -1) 3) (jn σ) 0 n) (jn σ) 1 n) (jn σ) 2 n
theorem jmn1_R {s : State} {H H' : Heap} {a : Nat} {i : Nat} {n : Int} (hn0 : 0 ≤ n) (hn1 : n ≤ 1000000) (hR : jRel G s σ H) (hK : jK σ a = 1006) (hN : jN σ a = 3) (hi : i < 3) (hl1 : H.size + 1 ≤ gN G) (hl2 : jsum H + n.toNat ≤ gU G)
    {o : Cell} (ho : H[a]? = some o) (e1 : H'[a]? = some (o.setSlot i (.ref H.size))) (e0 : H'[H.size]? = some (jI0 (gA G 1) n.toNat)) (e2 : H'.size = H.size + 1) (e3 : ∀ q : Nat, q < H.size → q ≠ a → H'[q]? = H[q]?) : jRel G s (jmn1 σ a i n) H' ∧ jsum H' = jsum H + n.toNat := by
  have hlt := (Array.getElem?_eq_some_iff.mp ho).1
  have z1 := hR.1
  have eI : jI0 (gA G 1) n.toNat = arrV (gA G 1) n.toNat (fun _ => .int 0) := arrV_new _ _ _
  have p1 : (Array.push H (jI0 (gA G 1) n.toNat))[H.size]? = some (jI0 (gA G 1) n.toNat) := by simp
  have p2 : (Array.push H (jI0 (gA G 1) n.toNat)).size = H.size + 1 := by simp
  have p3 : ∀ q : Nat, q < H.size → (Array.push H (jI0 (gA G 1) n.toNat))[q]? = H[q]? := fun q hq => by rw [Array.getElem?_push, if_neg (by omega)]
  have hsz : (jI0 (gA G 1) n.toNat).slots.size = n.toNat := by simp [jI0]
  have hs1 := jsum_push p2 p1 p3
  rw [hsz] at hs1
  have hR1 := jRel.mk (k := 1001) (nn := n) (f := fun _ => 0) hR p1 p2 p3 hl1 (by rw [hsz]; exact hl2) (jcell.mk ⟨fun _ q => by omega, fun _ _ => ⟨.byte, rfl, hn0, by omega, by rw [p1, eI]; rfl, fun i _ => jok_i.mpr (show jin 0 from ⟨by decide, by decide⟩)⟩, fun q _ => by omega⟩ (by omega) (by have := hR.2.2.2.1; omega))
  rw [hsz, jcast hn0] at hR1
  have hne : ((a : Nat) : Int) ≠ jn σ := by omega
  have hK1 : jK (jmk σ 1001 n (fun _ => 0) n) a = 1000 + ((6 : Nat) : Int) := by show (if ((a : Nat) : Int) = jn σ then _ else jK σ a) = _; rw [if_neg hne, hK]; rfl
  have hN1 : jN (jmk σ 1001 n (fun _ => 0) n) a = 3 := by show (if ((a : Nat) : Int) = jn σ then _ else jN σ a) = _; rw [if_neg hne, hN]
  obtain ⟨-, -, a4, -, -, -⟩ := jarr hR1 (by omega) hK1 (by omega) (ty := .array .byte) rfl
  rw [Int.toNat_natCast, p3 a hlt, ho] at a4
  have ho' := Option.some.inj a4
  have hR2 := jR_puta (H' := H') (v := jn σ) (i := (i : Int)) hR1 (a := (a : Int)) (by omega) hK1 (by omega) (ty := .array .byte) rfl (by omega) (by rw [hN1]; omega) (jok_r.mpr (by omega)) (by
    rw [Int.toNat_natCast, Int.toNat_natCast, ← ho', e1]
    show _ = some (o.setSlot i (jv (2, jn σ)))
    rw [jv_r (by omega), ← z1, Int.toNat_natCast]) (by rw [e2, p2]) (fun q hq => by
    rw [Int.toNat_natCast] at hq
    by_cases h1 : q < H.size
    · rw [e3 q h1 hq, p3 q h1]
    · by_cases h2 : q = H.size
      · subst h2; rw [e0, p1]
      · rw [Array.getElem?_eq_none (by omega), Array.getElem?_eq_none (by omega)])
  refine ⟨hR2, ?_⟩
  rw [← hs1]
  exact jsum_set (a := a) (cell := o) (cell' := o.setSlot i (.ref H.size)) (by rw [p3 a hlt]; exact ho) (by rw [e2, p2]) e1 (fun q hq => by
    by_cases h1 : q < H.size
    · rw [e3 q h1 hq, p3 q h1]
    · by_cases h2 : q = H.size
      · subst h2; rw [e0, p1]
      · rw [Array.getElem?_eq_none (by omega), Array.getElem?_eq_none (by omega)]) (by simp [Cell.setSlot])
theorem jadd_f {S : State} {I o o' : Cell} {a : Nat} (h : S.heap[a]? = some o) : ((S.pushCell I).setCell a o').heap.size = S.heap.size + 1 ∧ ((S.pushCell I).setCell a o').heap[S.heap.size]? = some I ∧ ((S.pushCell I).setCell a o').heap[a]? = some o' ∧ ∀ q : Nat, q < S.heap.size → q ≠ a → ((S.pushCell I).setCell a o').heap[q]? = S.heap[q]? := by
  have hlt := (Array.getElem?_eq_some_iff.mp h).1
  refine ⟨by simp [State.setCell], ?_, State.heap_setCell_self (jpush_f h), fun q hq hne => ?_⟩
  · rw [State.heap_setCell_other (show a ≠ S.heap.size from Nat.ne_of_lt hlt), State.heap_pushCell_size]
  · rw [State.heap_setCell_other (fun g => hne g.symm), State.heap_pushCell_of_lt (h := hq)]
theorem jf4_setTop (s : State) (f : JFrame) (c comp : ClassId) (n : Nat) : jf4 (s.setTop f) c comp n = (jf4 s c comp n).setTop f := by
  simp only [jf4, jf3, jf2, jf1, State.heap_setTop, State.pushCell_setTop, State.setCell_setTop]
theorem jr_mna (C : jC G X cc own nL ret d nm) {n : Int} {index : Nat} (w1 : Cond.classLink own index "[[B" ∈ lw_all) (hd : decode cc pc = .ok (.multianewarray index 2, 4)) (hn0 : 0 ≤ n) (hn1 : n ≤ 1000000) (hn : jn σ + 4 ≤ jlN σ) (hu : ju σ + (3 + 3 * n) ≤ jlU σ)
    (kk : jWP G X nL (pc + 4) ls ((2, jn σ) :: st) (jmn σ n) σ' r) : jWP G X nL pc ls ((0, n) :: (0, 3) :: st) σ σ' r := by
  obtain ⟨p, l, e, R, s, m, args, below, meth, c⟩ := X
  intro H locs la hR hL hs hl ha
  rw [jall_cons, jall_cons] at hs
  obtain ⟨C1, C2, C3, C4, C5, C6, C7, C8, C9, C10, C11, C12⟩ := C
  have z1 := hR.1
  have z2 := hR.2.1
  have z3 := hR.2.2.2.2.1
  have z4 := hR.2.2.2.2.2.1
  have hL2 := hL.2.1
  have hL3 := hL.2.2
  have hj := jok_i.mp hs.1
  have hN := jclamp hn0 hj
  intro T hT X
  obtain ⟨cA, comp, kA, f1, f2, f3, f4⟩ := hR.2.2.2.2.2.2.2.2.2.2.2
  obtain ⟨b6, b6'⟩ := hR.2.2.2.2.2.2.2.1 6 (.array .byte) rfl
  obtain ⟨b1, b1'⟩ := hR.2.2.2.2.2.2.2.1 1 .byte rfl
  cases f1.symm.trans (show s.vm.findClass "[[B" = some (gA G 6) from b6')
  cases f4.symm.trans (va_nm_byte b1')
  obtain ⟨-, kC, hkC, c2, hkindC⟩ := b1 0 (fun _ => .null)
  have hpl : e.platform.magicAccessors = ({} : Platform).magicAccessors := by rw [X.admits.platform]
  obtain ⟨c0, hfc0, hcl⟩ := Cond.classLink_spec C4 (C5 _ w1) e.platform hpl
  cases f1.symm.trans hfc0
  obtain ⟨hg1, hwarm1, -⟩ := State.classEntry (e := e) X.warmed hcl
  generalize T.vm.noted m.cls index (.cls (gA G 6)) = vm1 at hg1 hwarm1
  have hal := hwarm1.alike
  obtain ⟨kA1, hkA1, heA⟩ := hal.2.2 _ _ f2
  obtain ⟨kC1, hkC1, heC⟩ := hal.2.2 _ _ hkC
  have X1 := X.noted hwarm1
  obtain ⟨hr1, hr2⟩ := X.roomAbove (a := 4) (b := 3 + 3 * n.toNat) (by rw [C8.2.1]; omega) (by rw [C8.2.2.1]; omega)
  have hU : (T.setVm vm1).heap = H := hT
  obtain ⟨⟨a1, a2, a3, a4⟩, ⟨g1, g2, g3, g4⟩, ⟨h1, h2, h3, h4⟩⟩ := jf_facts (T.setVm vm1) (gA G 6) (gA G 1) n.toNat
  -- the walk stands
  have XA := X1.pushed (jO0 (gA G 6))
  have XB := (XA.pushed (jI0 (gA G 1) n.toNat)).stored (jpush_f a4) 0 (.ref ((T.setVm vm1).heap.size + 1))
  have XC := (XB.pushed (jI0 (gA G 1) n.toNat)).stored (jpush_f g4) 1 (.ref ((T.setVm vm1).heap.size + 2))
  have XD := (XC.pushed (jI0 (gA G 1) n.toNat)).stored (jpush_f h4) 2 (.ref ((T.setVm vm1).heap.size + 3))
  have sO : (jO0 (gA G 6)).slots.size = 3 := by simp [jO0]
  have sI : (jI0 (gA G 1) n.toNat).slots.size = n.toNat := by simp [jI0]
  rw [sO, sI] at XD
  -- the abstract heap
  have eO : jO0 (gA G 6) = arrV (gA G 6) 3 (fun _ => .null) := arrV_new _ _ _
  have q1 : (jf1 (T.setVm vm1) (gA G 6)).heap[H.size]? = some (jO0 (gA G 6)) := by rw [← hU]; exact a4
  have q2 : (jf1 (T.setVm vm1) (gA G 6)).heap.size = H.size + 1 := by rw [a1, hU]
  have q3 : ∀ q : Nat, q < H.size → (jf1 (T.setVm vm1) (gA G 6)).heap[q]? = H[q]? := fun q hq => by
    rw [← hU] at hq ⊢; exact State.heap_pushCell_of_lt _ _ hq
  have hs1 := jsum_push q2 q1 q3
  rw [sO] at hs1
  have hR1 := jRel.mk (k := 1006) (nn := 3) (f := fun _ => -1) hR q1 q2 q3 (by omega) (by rw [sO]; omega) (jcell.mk ⟨fun _ q => by omega, fun _ _ => ⟨.array .byte, rfl, by omega, by omega, by rw [q1, eO]; rfl, fun i _ => jok_r.mpr (show (-1 : Int) ≤ -1 by decide)⟩, fun q _ => by omega⟩ (by omega) (by have := hR.2.2.2.1; omega))
  rw [sO] at hR1
  have e0 : (T.setVm vm1).heap.size = H.size := by rw [hU]
  rw [e0] at XD a4 g4 h4
  have jA : ∀ (σ1 : jS) (i : Int) (b : Int), b < jn σ1 → jK (jmn1 σ1 b i n) b = jK σ1 b ∧ jN (jmn1 σ1 b i n) b = jN σ1 b ∧ jn (jmn1 σ1 b i n) = jn σ1 + 1 := fun σ1 i b hb => by
    have : ¬ b = jn σ1 := by omega
    exact ⟨by show (if b = jn σ1 then _ else jK σ1 b) = _; rw [if_neg this], by show (if b = jn σ1 then _ else jN σ1 b) = _; rw [if_neg this], rfl⟩
  have k0 : jK (jmk σ 1006 3 (fun _ => -1) 3) (H.size : Int) = 1006 := by show (if (H.size : Int) = jn σ then _ else _) = _; rw [if_pos z1]
  have n0 : jN (jmk σ 1006 3 (fun _ => -1) 3) (H.size : Int) = 3 := by show (if (H.size : Int) = jn σ then _ else _) = _; rw [if_pos z1]
  have l0 : jn (jmk σ 1006 3 (fun _ => -1) 3) = jn σ + 1 := rfl
  obtain ⟨y1, y2, y3, y4⟩ := jadd_f (S := jf1 (T.setVm vm1) (gA G 6)) (I := jI0 (gA G 1) n.toNat) (o' := (jO0 (gA G 6)).setSlot 0 (.ref (H.size + 1))) q1
  obtain ⟨hR2, hs2⟩ := jmn1_R (a := H.size) (i := 0) hn0 hn1 hR1 k0 n0 (by omega) (by rw [q2]; omega) (by rw [hs1]; omega) q1 (by rw [y3, q2]) y2 y1 y4
  obtain ⟨k1, n1, l1⟩ := jA _ 0 (H.size : Int) (by rw [l0]; omega)
  obtain ⟨x1, x2, x3, x4⟩ := jadd_f (I := jI0 (gA G 1) n.toNat) (o' := ((jO0 (gA G 6)).setSlot 0 (.ref (H.size + 1))).setSlot 1 (.ref (H.size + 2))) y3
  obtain ⟨hR3, hs3⟩ := jmn1_R (a := H.size) (i := 1) hn0 hn1 hR2 (k1.trans k0) (n1.trans n0) (by omega) (by rw [y1, q2]; omega) (by rw [hs2, hs1]; omega) y3 (by rw [x3, y1, q2]) x2 x1 x4
  obtain ⟨k2, n2, l2⟩ := jA (jmn1 (jmk σ 1006 3 (fun _ => -1) 3) H.size 0 n) 1 (H.size : Int) (by rw [l1, l0]; omega)
  obtain ⟨w1', w2', w3', w4'⟩ := jadd_f (I := jI0 (gA G 1) n.toNat) (o' := (((jO0 (gA G 6)).setSlot 0 (.ref (H.size + 1))).setSlot 1 (.ref (H.size + 2))).setSlot 2 (.ref (H.size + 3))) x3
  obtain ⟨hR4, hs4⟩ := jmn1_R (a := H.size) (i := 2) hn0 hn1 hR3 (k2.trans (k1.trans k0)) (n2.trans (n1.trans n0)) (by omega) (by rw [x1, y1, q2]; omega) (by rw [hs3, hs2, hs1]; omega) x3 (by rw [w3', x1, y1, q2]) w2' w1' w4'
  have eF : jf4 (T.setVm vm1) (gA G 6) (gA G 1) n.toNat = ((((((jf1 (T.setVm vm1) (gA G 6)).pushCell (jI0 (gA G 1) n.toNat)).setCell H.size ((jO0 (gA G 6)).setSlot 0 (.ref (H.size + 1)))).pushCell (jI0 (gA G 1) n.toNat)).setCell H.size (((jO0 (gA G 6)).setSlot 0 (.ref (H.size + 1))).setSlot 1 (.ref (H.size + 2)))).pushCell (jI0 (gA G 1) n.toNat)).setCell H.size ((((jO0 (gA G 6)).setSlot 0 (.ref (H.size + 1))).setSlot 1 (.ref (H.size + 2))).setSlot 2 (.ref (H.size + 3))) := by
    unfold jf4 jf3 jf2; rw [e0]
  generalize hF : jf4 (T.setVm vm1) (gA G 6) (gA G 1) n.toNat = F at eF
  rw [← eF] at hR4 hs4 w1' w2' w3' w4'
  have XF : Stand p l e R s m args below meth c F (((locs ++ [⟨H.size, 0⟩]) ++ [⟨H.size, 1⟩]) ++ [⟨H.size, 2⟩]) (F.heap.size - s.heap.size) (jsum F.heap - jsum s.heap) := by
    have c1 : F.heap.size - s.heap.size = (H.size - s.heap.size) + 1 + 1 + 1 + 1 := by rw [w1', x1, y1, q2]; omega
    have c2 : jsum F.heap - jsum s.heap = (jsum H - jsum s.heap) + 3 + n.toNat + n.toNat + n.toNat := by rw [hs4, hs3, hs2, hs1]; omega
    rw [c1, c2, eF]
    exact XD
  have hgb : gb G ≤ H.size := hR.2.2.2.1
  have hfin := kk F.heap _ la (by rw [z1] at hR4; exact hR4) ⟨fun q hq => by
    rcases List.mem_append.mp hq with hq | hq
    · rcases List.mem_append.mp hq with hq | hq
      · rcases List.mem_append.mp hq with hq | hq
        · exact hL.1 q hq
        · rw [List.mem_singleton.mp hq]; exact hgb
      · rw [List.mem_singleton.mp hq]; exact hgb
    · rw [List.mem_singleton.mp hq]; exact hgb, by rw [w1', x1, y1, q2]; omega, by rw [hs4, hs3, hs2, hs1]; omega⟩ (jall_cons.mpr ⟨jok_r.mpr (by omega), hs.2.2⟩) hl ha F rfl XF
  obtain ⟨t, t1, t2⟩ := hfin
  refine ⟨t, ?_, t2⟩
  rw [List.map_cons, jv_r (by omega), ← z1, Int.toNat_natCast] at t1
  rw [List.map_cons, List.map_cons, jv_i, jv_i, show Int32.ofInt 3 = 3 from rfl]
  have hg1' : (resolveClass (F0 m pc la (.int (Int32.ofInt n) :: .int 3 :: st.map jv)).method.cls index).Gives e.toSetting (T.setTop (F0 m pc la (.int (Int32.ofInt n) :: .int 3 :: st.map jv))).vm (.ok (gA G 6)) vm1 := by rw [State.vm_setTop]; exact hg1
  have hdg : decode c.code (F0 m pc la (.int (Int32.ofInt n) :: .int 3 :: st.map jv)).pc = .ok (.multianewarray index 2, 4) := by rw [C2]; exact hd
  jvm_step X.here [C1, hdg]
  simp only [multianewarray.sem, wp_bind', W.resolveClassAt_links (State.method?_setTop (F0 m pc la (.int (Int32.ofInt n) :: .int 3 :: st.map jv)) X.here.top) hg1']
  rw [W.popN, if_neg (by decide)]
  refine ⟨F0 m pc la (.int (Int32.ofInt n) :: .int 3 :: st.map jv), State.topJava?_setTop' (s := T.setVm vm1) _ X.here.top, [.int 3, .int (Int32.ofInt n)], st.map jv, rfl, rfl, ?_⟩
  simp only [List.mapM_cons, List.mapM_nil, wp_bind', wp_pure']
  refine jwp_make3 (n := Int32.ofInt n) (k := kA1) (kc := kC1) (comp := gA G 1) (c2 := c2) hkA1 (by rw [heA]; exact f3) hkC1 (by rw [heC]; exact hkindC) (by rw [jo_0, jo_lt hj jin_0]; omega) (by rw [hN, Launch.admits_arrayLengthLimit X.admits]; omega) (by rw [hN, Launch.admits_maxHeapBytes X.admits]; omega) (by rw [Launch.admits_arrayLengthLimit X.admits]; omega) (by rw [Launch.admits_maxHeapBytes X.admits]; omega) (by show T.heap.size + 4 ≤ _; exact hr1) (by rw [hN]; show T.slotsUsed + _ ≤ _; exact hr2) (fun d' acts' => ?_)
  rw [hN]
  have eS : ∀ g0 g1 : JFrame, ((T.setTop g0).setVm vm1).setTop g1 = (T.setVm vm1).setTop g1 := fun g0 g1 => by
    show ((T.setVm vm1).setTop g0).setTop _ = _
    rw [State.setTop_setTop]
  rw [eS, jf4_setTop, hF]
  simp only [wp_bind', W.mark, W.pushRef, State.topJava?_setTop' _ XF.here.top, Option.some.injEq, exists_eq_left', State.setTop_setTop, State.heap_setTop]
  intro acts
  simp [jvm, XF.here.top]
  have e5 : (T.setVm vm1).heap.size = H.size := e0
  rw [show T.heap.size = H.size by rw [hT]]
  exact t1
def jmna (σ : jS) (n : Int) : Option (jS × Int) := if 0 ≤ n ∧ n ≤ 1000000 ∧ jn σ + 4 ≤ jlN σ ∧ ju σ + (3 + 3 * n) ≤ jlU σ then some (jmn σ n, jn σ) else none
def jsMN : jStp := fun _ _ kn _ _ st σ => match st with
  | (0, n) :: (0, k) :: s => if k = 3 then (jmna σ n).bind fun q => kn ((2, q.2) :: s) q.1 else none
  | _ => none
theorem jk_multianewarray {I : Instr} {i n : Nat} (h : jkey I = some (16 * i + 14, n)) : I = .multianewarray i 2 ∧ n = 4 := by
  cases I <;> simp only [jkey, Option.some.injEq, Prod.mk.injEq, reduceCtorEq] at h
  case multianewarray j k =>
    split at h <;> simp only [Option.some.injEq, Prod.mk.injEq, reduceCtorEq] at h
    rename_i e
    have : j = i := by omega
    subst this e; exact ⟨rfl, by omega⟩
  case newarray a => have := jat_lt a; omega
  all_goals omega
variable {wr : Bool} {Hs : jHs} {i : Nat}
theorem jsMN_ok (w1 : Cond.classLink own i "[[B" ∈ lw_all) : jKOk G l own d nm true false Hs (16 * i + 14, jsMN) := by
  refine ⟨?_, fun h => nomatch h⟩
  intro I n hI X cc nL ret pc lr st σ σ' r R mk kn kj x C hH hXl hd hs h hkn hmk hkj
  obtain ⟨rfl, rfl⟩ := jk_multianewarray hI
  dsimp only [jsMN] at h
  split at h
  · rename_i n k s
    split at h
    · rename_i g
      subst g
      unfold jmna at h
      split at h
      · rename_i g
        have k1 := hkn _ _ (fun e => nomatch e) (fun e => nomatch e) (jst_k (by show 2 < 16; decide) (jst_e (jst_c (jst_c hs).2).2 fun e => nomatch e)) h
        rw [jgs_c] at k1
        rw [jgs_c, jgs_c]
        exact jr_mna C w1 hd g.1 g.2.1 g.2.2.1 g.2.2.2 k1
      · cases h
    · cases h
  · cases h
end jMna2
