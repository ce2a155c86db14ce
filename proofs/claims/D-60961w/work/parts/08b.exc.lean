/-! exceptions without a message are made: new, dup, the constructor, in one; no traces are made -/
section jExc
theorem W.excInit {p : Program} {l : Launch} {e : Env} {R : Room} {s : State} {m : MethodId} {args : Array Value} {below : List Frame} {meth : Method} {c : Code} {H : Heap} {locs : List Loc} {cells slots : Nat} {Q : State → Prop} {cc : ByteArray} (hexec : p.tables.exec = Jvm.exec) (hb : c.code = cc) (hfl : jFl l) {own cls : String} {names : List String} {ic pc : Nat} {la : Array Slot} {rest : List Value} {a : Addr} {cX : ClassId} {kX : Class}
    (hown : s.vm.findClass own = some m.cls) (hcls : Bundle.fit cls = true) (hnames : ∀ n ∈ names, Bundle.fit n = true) (h : ∀ w ∈ Bundle.ownAtoms0 own ic cls names, w.before args s = true)
    (hns : ∀ x ∈ locs, ∀ cell : Cell, H[x.base]? = some cell → cell.vm.isStatics = false) (hfoundX : s.vm.findClass cls = some cX) (hkX : s.vm.classes[cX]? = some kX) (hcell : H[a]? = some (freshCell cX kX)) (hnew : s.heap.size ≤ a) (hsize : la.size = c.maxLocals) (hd : decode cc pc = .ok (.invokespecial ic, 3))
    (hRf : names.length + 3 < R.frames) (hRl : (rest.map fun v => v.category).sum + (13 * (names.length + 1) + 41) ≤ R.locals)
    (kk : ∀ (cell' : Cell) (L : List Loc), cell'.cls = cX → cell'.vm = .none → cell'.slots.size = kX.instanceTypes.size → (∀ q ∈ L, q.base = a) → W p l e R s m args below meth c (H.setIfInBounds a cell') (locs ++ L) cells slots Q (F0 m (pc + 3) la rest)) : W p l e R s m args below meth c H locs cells slots Q (F0 m pc la (.ref a :: rest)) := by
  intro W hT X
  have htr : e.platform.stackTraces = false := Launch.traces_off hfl X.admits
  have howns : e.platform.frameOwnsMonitors = true := by rw [X.admits.platform]
  have hfin : e.platform.finalization = false := by rw [X.admits.platform]
  have hpl : e.platform.magicAccessors = ({} : Platform).magicAccessors := by rw [X.admits.platform]
  have hh : ∀ w, w ∈ Bundle.ownAtoms0 own ic cls names → w.holds args s none s [] = true := fun w hw => h w hw
  obtain ⟨T, Z, L, LZ, Y⟩ := ThrowableC.of_atoms (args := args) howns hfin hpl (fun w hw => h w (by simp [Bundle.ownAtoms0, hw]))
  obtain ⟨P1, Ps, hlen, L1, hL, hP1m, hlink1, hlink⟩ := Bundle.chain0 (args := args) hpl Y.init0 names cls hcls hnames (fun w hw => h w (by simp [Bundle.ownAtoms0, hw]))
  have hfound : s.vm.findClass cls = some P1.m.cls := findClass_of_methodNamed hP1m
  cases Option.some.inj (hfoundX.symm.trans hfound)
  obtain ⟨c1, kX', hc1, hk, hord, -, -, hn6⟩ := Cond.instantiable_spec (hh (.instantiable cls 6) (by simp [Bundle.ownAtoms0]))
  cases Option.some.inj (hc1.symm.trans hfound)
  cases Option.some.inj (hkX.symm.trans hk)
  have hsel : ∀ {y : MethodName} {z : MethodId}, Cond.selects cls y y ∈ Bundle.ownAtoms0 own ic cls names → s.methodNamed? y = some z → (y.cls ≠ "java/lang/invoke/MethodHandle" ∧ y.cls ≠ "java/lang/invoke/VarHandle") → selectMethod e.platform s.vm P1.m.cls z = .method z := by
    intro y z hy hz hn
    obtain ⟨c2, r2, m2, q1, q2, q3, q4, -⟩ := Cond.selects_spec (hh _ hy)
    cases Option.some.inj (q1.symm.trans hfound)
    cases Option.some.inj (q2.symm.trans (State.methodFound?_of_named hz hn))
    cases Option.some.inj (q3.symm.trans hz)
    rw [Launch.admits_selectMethod X.admits]; exact q4
  have hsel0 := hsel (y := Bundle.tFill0) (by simp [Bundle.ownAtoms0]) Y.fill0 (by decide)
  have hselF := hsel (y := Bundle.tFill) (by simp [Bundle.ownAtoms0]) Y.fill (by decide)
  obtain ⟨cellS0, hcS0, hiss⟩ := Y.statics
  obtain ⟨u0, hu0⟩ := Cond.staticRefV Y.unassigned L.unassignedStatic L.statics hcS0 hiss (hh (.isRef (.static Bundle.tN "UNASSIGNED_STACK" Bundle.steD)) (by simp [Bundle.ownAtoms0]))
  obtain ⟨sen, hsen⟩ := Cond.staticRefV Y.sentinel L.sentinelStatic L.statics hcS0 hiss (hh (.isRef (.static Bundle.tN "SUPPRESSED_SENTINEL" Bundle.listD)) (by simp [Bundle.ownAtoms0]))
  obtain ⟨ci198, i198, fB, hk198, hg198, ha198, hsB, -, hnB, htB, hffB⟩ := Cond.ownField (t := .object "java/lang/Object") Y.found L.cls (by decide +kernel) (hh (.fieldLink Bundle.tN 198 Bundle.tN "backtrace" "Ljava/lang/Object;") (by simp [Bundle.ownAtoms0])) (hh (.lays Bundle.tN Bundle.tN "backtrace" "Ljava/lang/Object;") (by simp [Bundle.ownAtoms0])) e.platform hpl
  obtain ⟨cellS, hcellS, heS, -, hkeep⟩ := X.same.2.2.2.2.2 T.aS cellS0 hcS0
  have hcellS : W.heap[T.aS]? = some cellS := hcellS
  have hissS : cellS.vm.isStatics = true := by rw [heS]; exact hiss
  have hout : ∀ i, (⟨T.aS, i⟩ : Loc) ∉ locs := fun i hm => by
    have := hns _ hm cellS (by rw [← hT]; exact hcellS)
    rw [hissS] at this; cases this
  have hknownS : cellS.vm ≠ .unknown := fun g => by rw [g] at hissS; cases hissS
  have hneS : T.aS ≠ a := Nat.ne_of_lt (Nat.lt_of_lt_of_le (Array.getElem?_eq_some_iff.mp hcS0).1 hnew)
  obtain ⟨tyC, dC, hdC, hdnC⟩ := Cond.laysAt hfound hk Y.cause (hh (.lays cls Bundle.tN "cause" "Ljava/lang/Throwable;") (by simp [Bundle.ownAtoms0]))
  obtain ⟨tyS, dS, hdS, hdnS⟩ := Cond.laysAt hfound hk Y.stack (hh (.lays cls Bundle.tN "stackTrace" Bundle.steD) (by simp [Bundle.ownAtoms0]))
  obtain ⟨tyP, dP, hdP, hdnP⟩ := Cond.laysAt hfound hk Y.supp (hh (.lays cls Bundle.tN "suppressedExceptions" Bundle.listD) (by simp [Bundle.ownAtoms0]))
  obtain ⟨tyB, dB, hdB, hdnB⟩ := Cond.laysAt hfound hk hffB (hh (.lays cls Bundle.tN "backtrace" "Ljava/lang/Object;") (by simp [Bundle.ownAtoms0]))
  have bC := Cond.laysApart hdB hdC hdnB hdnC (by rw [hnB, Y.causeName]; decide)
  have bS := Cond.laysApart hdB hdS hdnB hdnS (by rw [hnB, Y.stackName]; decide)
  have bP := Cond.laysApart hdB hdP hdnB hdnP (by rw [hnB, Y.suppName]; decide)
  have hskip : SkipFacts T e.platform s (fun u => u) u0 ((preparedCellV T.toThrowableT (freshCell P1.m.cls kX) a u0 sen).withEntry W.cur) :=
    ⟨{ ci198 := ci198, i198 := i198, fBack := fB }, ⟨hk198, hg198, ha198, hsB⟩, by
      have := fresh_default (c := P1.m.cls) tyB
      rw [htB] at this
      simpa [preparedCellV, Cell.setSlot, Cell.withEntry, Array.getElem?_setIfInBounds, bC, bS, bP, bC.symm, bS.symm, bP.symm, defaultValue] using this, fun _ _ => rfl⟩
  obtain ⟨tm, methC, cdC, kC, vm₁, hnC, -, -, -, -, -, -, -, hW₁, st1⟩ := Steps.initCold (tb := p.tables) (e := e) (below := below) (s := s) (U := W) X.here hexec X.warmed hpl hown (t := Bundle.init0 cls) rfl rfl (Bundle.fit_spec hcls).2
    (hh (.methodLink own ic (Bundle.init0 cls)) (by simp [Bundle.ownAtoms0])) (h (.instanceMethod (Bundle.init0 cls)) (by cases names <;> simp [Bundle.ownAtoms0, Bundle.chain0Atoms, Bundle.passAtoms])) (bytes := Bundle.five) (maxL := 1) (h (.code (Bundle.init0 cls) Bundle.five 1 none) (by cases names <;> simp [Bundle.ownAtoms0, Bundle.chain0Atoms, Bundle.passAtoms]))
    (f := F0 m pc la (.ref a :: rest)) rfl (a := a) (rest := rest) rfl (by rw [hb]; exact hd)
  cases Option.some.inj (hnC.symm.trans hP1m)
  have X₁ := X.noted hW₁
  have hc' : W.heap[a]? = some (freshCell P1.m.cls kX) := by rw [hT]; exact hcell
  obtain ⟨vm₂, X₂, st2⟩ := X₁.ctorPlainOffV hexec (g := F0 m pc la rest) rfl hsize T L Z LZ (P1 :: Ps)
    (fun P hP => by rcases List.mem_cons.mp hP with rfl | hP; exact L1; exact hL P hP) ⟨hlink1, hlink⟩ (u0 := u0) (sen := sen) (self := a) (cell := freshCell P1.m.cls kX) (cellS := cellS)
    hc' (fun _ => by simp) (by simp) rfl rfl hsel0 hselF hcellS hneS hknownS (by rw [hkeep _ (hout _)]; exact hu0) (by rw [hkeep _ (hout _)]; exact hsen)
    (Takes.of_laid hk hord tyC (by rw [Y.causeType]; rfl)) (Takes.of_laid hk hord tyS (by rw [Y.stackType]; exact fits_refV_array _ u0)) (Takes.of_laid hk hord tyP (by rw [Y.suppType]; exact fits_refV_object _ sen)) Y.objLocals hskip htr [] (by rw [hb]; exact hd)
    (by simp only [List.length_cons, hlen]; omega) (by simp only [List.length_cons, hlen]; show 2 * 0 + _ + _ ≤ _; omega)
  have key := kk ((preparedCellV T.toThrowableT (freshCell P1.m.cls kX) a u0 sen).setSlot T.fStack.slot u0.v) [⟨a, T.fCause.slot⟩, ⟨a, T.fStack.slot⟩, ⟨a, T.fSupp.slot⟩, ⟨a, T.fStack.slot⟩] (by simp [preparedCellV, Cell.setSlot]) (by simp [preparedCellV, Cell.setSlot]) (by simp [preparedCellV, Cell.setSlot]) (by simp)
  obtain ⟨t, k1, k2⟩ := key _ (by show ((W.setVm vm₁).setVm vm₂).heap.setIfInBounds a _ = _; rw [← hT]; rfl) X₂
  exact ⟨t, st1 _ (fun acts => by rw [doInvoke_state]; exact st2 _ k1), k2⟩
/-- an opaque cell is another one -/
theorem jRel.swap {G : jG} {s : State} {σ : jS} {H : Heap} {a : Nat} {cell cell' : Cell} (hR : jRel G s σ H) (hc : H[a]? = some cell) (h1 : cell'.cls = cell.cls) (h2 : cell'.vm = .none) (h3 : cell'.slots.size = cell.slots.size) (hK0 : 2000 ≤ jK σ a) (hK1 : jK σ a < 3000) : jRel G s σ (H.setIfInBounds a cell') := by
  obtain ⟨r1, r2, r3, r4, r5, r6, r7⟩ := hR
  have hlt := (Array.getElem?_eq_some_iff.mp hc).1
  have e1 : (H.setIfInBounds a cell')[a]? = some cell' := by simp [hlt]
  have e2 : (H.setIfInBounds a cell').size = H.size := by simp
  have e3 : ∀ q : Nat, q ≠ a → (H.setIfInBounds a cell')[q]? = H[q]? := fun q hq => by
    rw [Array.getElem?_setIfInBounds_ne (fun g => hq g.symm)]
  have hsum := jsum_set hc e2 e1 e3 h3
  refine ⟨by rw [e2]; exact r1, by rw [hsum]; exact r2, fun b => ?_, by rw [e2]; exact r4, by rw [e2]; exact r5, ⟨by rw [hsum]; exact r6.1, r6.2.1, r6.2.2.kept rfl (fun q hq => e3 q (fun g => by have := (r3 a).1 (by omega) hK1; omega))⟩, r7⟩
  by_cases h : b = a
  · subst h
    have q := r3 b
    have hgb := q.1 (by omega) hK1
    obtain ⟨cell0, q1, q2, -, -⟩ := (q.n hK1).2.2 hK0 hK1
    cases hc.symm.trans q1
    refine jcell.mk ⟨fun _ g => by omega, fun _ g => by omega, fun _ _ => ⟨cell', e1, by rw [h1]; exact q2, by rw [h2]; rfl, by rw [h2]; simp⟩⟩ hK1 hgb
  · exact (r3 b).kept (e3 b h)
variable {G : jG} {X : jX} {cc : ByteArray} {own nm : String} {nL d pc : Nat} {ret : Option FieldType} {ls : List (Nat × jT)} {st : List jT} {σ σ' : jS} {r : jT}
/-- words of the statics that are start facts -/
def jstw (w : Cond) : Bool := match w with
  | .laysStatic C n d => jSt.any (fun q => q.1 == C && (q.2.1 == n && q.2.2.1 == d))
  | .isRef (.static C n d) => jSt.any (fun q => q.1 == C && (q.2.1 == n && (q.2.2.1 == d && q.2.2.2.1 == 2)))
  | _ => false
theorem jstw_ok {G : jG} {s : State} {σ : jS} {args : Array Value} (hR : jRel G s σ s.heap) {w : Cond} (h : jstw w = true) : w.before args s = true := by
  have hS := hR.2.2.2.2.2.1.2.2.2.2
  unfold jstw at h
  split at h
  · obtain ⟨q, q1, q2⟩ := List.any_eq_true.mp h
    simp only [Bool.and_eq_true, beq_iff_eq] at q2
    obtain ⟨rfl, rfl, rfl⟩ := q2
    exact (hS q q1).1.lays
  · obtain ⟨q, q1, q2⟩ := List.any_eq_true.mp h
    simp only [Bool.and_eq_true, beq_iff_eq] at q2
    obtain ⟨rfl, rfl, rfl, e⟩ := q2
    have h1 := (hS q q1).1
    rw [e, show jsv G 2 q.2.2.2.2 = (2, gC G q.2.2.2.2) from rfl] at h1
    exact h1.isRef
  · cases h
/-- new, dup, the constructor of an exception -/
theorem jr_mkX (C : jC G X cc own nL ret d nm) (hfl : jFl X.2.1) {ix ic : Nat} (ci : Nat) {rr : vw_C} {names : List String} (hcl : jCl[ci]? = some rr) (hci : ci < 1000) (h6 : rr.2.2 = 6) (w1 : Cond.classLink own ix rr.1 ∈ lw_all) (w2 : Cond.instantiable rr.1 rr.2.2 ∈ lw_all) (w3 : Cond.initialized rr.1 ∈ lw_all)
    (hcls : Bundle.fit rr.1 = true) (hnames : ∀ n ∈ names, Bundle.fit n = true) (hw : ∀ w ∈ Bundle.ownAtoms0 own ic rr.1 names, w ∈ lw_all ∨ (w ∈ lw_tbl ∧ jnest w = true) ∨ jstw w = true)
    (hd1 : decode cc pc = .ok (.new ix, 3)) (hd2 : decode cc (pc + 3) = .ok (.dup, 1)) (hd3 : decode cc (pc + 4) = .ok (.invokespecial ic, 3)) (hD : names.length + 4 ≤ d) (hWt : jwords st ≤ 33) (hn : jn σ + 1 ≤ jlN σ) (hu : ju σ + 6 ≤ jlU σ)
    (kk : jWP G X nL (pc + 7) ls ((2, jn σ) :: st) (jmk σ (2000 + ci) 0 (fun _ => 0) 6) σ' r) : jWP G X nL pc ls st σ σ' r := by
  obtain ⟨p, l, e, R, s, m, args, below, meth, c⟩ := X
  intro H locs la hR hL hs hl ha
  have hfl : jFl l := hfl
  obtain ⟨C1, C2, C3, C4, C5, C6, C7, C8, C9, C10, C11, C12⟩ := C
  have hKn := hR.2.2.2.2.2.2.1.1 ci _ hcl
  have z1 := hR.1
  have z2 := hR.2.1
  have z3 := hR.2.2.2.2.1
  have z4 := hR.2.2.2.2.2.1
  have z5 := hR.2.2.2.1
  obtain ⟨kC, hkC, hsz⟩ : ∃ kC : Class, s.vm.classes[(gD G).1 ci]? = some kC ∧ kC.instanceTypes.size = 6 := by
    obtain ⟨cC, kC, h1, h2, -, -, -, h4⟩ := Cond.instantiable_spec (C5 _ w2)
    cases hKn.2.1.symm.trans h1
    exact ⟨kC, h2, by rw [← h6]; exact h4⟩
  have hL2 := hL.2.1
  have hL3 := hL.2.2
  have hr1 : (H.size - s.heap.size) + 1 ≤ R.cells := by rw [C8.2.1]; omega
  have hr2 : (jsum H - jsum s.heap) + 6 ≤ R.slots := by rw [C8.2.2.1]; omega
  refine W.newcK C1 C2 C4 (C5 _ w1) (C5 _ w2) (C5 _ w3) rfl hd1 hr1 (by rw [h6]; exact hr2) hKn.2.1 rfl fun H' kC' hkC' e1 e2 e3 => ?_
  cases hkC.symm.trans hkC'
  have hbs : (blank ((gD G).1 ci) kC).slots.size = 6 := by simp [blank, hsz]
  have hsum := jsum_push e2 e1 e3
  rw [hbs] at hsum
  have hR' := jRel.mk (k := 2000 + ci) (nn := 0) (f := fun _ => 0) hR e1 e2 e3 (by omega) (by rw [hbs]; omega) (jcell.mk ⟨fun _ g => by omega, fun _ g => by omega, fun _ _ => ⟨_, e1, by rw [show (2000 + (ci : Int) - 2000).toNat = ci by omega]; rfl, rfl, by simp [blank]⟩⟩ (by omega) (by omega))
  rw [hbs] at hR'
  refine lv_dup C1 C2 hd2 rfl ?_
  refine W.excInit C1 C2 hfl C4 hcls hnames (fun w hw' => ?_) (fun x hx cell hcell => ?_) (kX := kC) hKn.2.1 hkC e1 (by omega) (ha.1.trans C3.symm) hd3 (by omega) ?_ fun cell' L c1 c2 c3 c4 => ?_
  · rcases hw w hw' with g | ⟨g, g'⟩ | g
    · exact C5 _ g
    rotate_left
    · obtain ⟨σ0, hR0⟩ := C11.2
      exact jstw_ok hR0 g
    · exact va_Nw.use (by cases w <;> first | rfl | (simp [jnest] at g')) (hR.2.2.2.2.2.2.2.2.1 _ g g')
  · exact (hR'.2.2.1 x.base).2.2 (hL.1 x hx) cell hcell
  · rw [List.map_cons, List.sum_cons, jwords_cat hs]
    show 1 + _ + _ ≤ _
    omega
  · have hR'' := hR'.swap (a := H.size) (cell' := cell') e1 c1 c2 (by rw [c3, hbs]; exact hsz) (by show 2000 ≤ if ((H.size : Nat) : Int) = jn σ then (2000 + ci : Int) else _; rw [if_pos z1]; omega) (by show (if ((H.size : Nat) : Int) = jn σ then (2000 + ci : Int) else _) < 3000; rw [if_pos z1]; omega)
    have hsz2 : (H'.setIfInBounds H.size cell').size = H'.size := by simp
    have hsum2 : jsum (H'.setIfInBounds H.size cell') = jsum H' := by
      refine jsum_set e1 (by simp) (cell' := cell') (by simp [e2]) (fun q hq => Array.getElem?_setIfInBounds_ne (fun g => hq g.symm)) (by rw [c3, hbs]; exact hsz)
    have h := kk (H'.setIfInBounds H.size cell') (locs ++ L) la hR'' ⟨fun x hx => by
      rcases List.mem_append.mp hx with hx | hx
      · exact hL.1 x hx
      · rw [c4 x hx]; exact z5, by rw [hsz2]; omega, by rw [hsum2]; omega⟩ (jall_cons.mpr ⟨jok_r.mpr (by omega), hs⟩) hl ha
    rw [hsz2, hsum2, e2, hsum, List.map_cons, jv_r (by omega), show H.size + 1 - s.heap.size = (H.size - s.heap.size) + 1 by omega, show jsum H + 6 - jsum s.heap = (jsum H - jsum s.heap) + 6 by omega, ← z1, Int.toNat_natCast] at h
    rw [h6]
    exact h
end jExc
