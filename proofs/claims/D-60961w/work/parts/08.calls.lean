/-! the rules of calls -/
/-! exceptions on their way: the frame at a pc, with a note of what was thrown above it -/
def jXW (G : jG) (X : jX) (nL pc : Nat) (ls : List (Nat × jT)) (σ σ' : jS) (r : jT) (a : Int) : Prop := match X with
  | (p, l, e, R, s, m, args, below, meth, c) =>
    ∀ (H : Heap) (locs : List Loc) (la : Array Slot) (stv : List Value), jRel G s σ H → jLo G s locs H → (∀ q ∈ ls, jok q.2) → lv_has la nL (ls.map (fun q => (q.1, jv q.2))) →
      ∀ T : State, T.heap = H → Stand p l e R s m args below meth c T locs (H.size - s.heap.size) (jsum H - jsum s.heap) → ∃ t, Steps p.tables e below ((T.setTop (F0 m pc la stv)).pushFrame (.throwing a.toNat)) t ∧ jEnd G below s σ' r t
/-- the call threw: the walk stands again, with the note -/
theorem jbackX {l : Launch} {p : Program} {e : Env} {R : Room} {s : State} {m : MethodId} {args : Array Value} {below : List Frame} {meth : Method} {c : Code} {T : State} {locs : List Loc} {cells slots : Nat} {g : JFrame} {mk : MethodId} {a : Array Value} {t : State} {x : Addr} {L : List Loc} {k n : Nat} (X : Stand p l e R s m args below meth c T locs cells slots) (hg : g.method = m)
    (hend : Ended t (.java g :: below) (.threw x)) (hW : (T.calling g mk a).WarmedH t.vm) (hsame : (T.calling g mk a).sameButNew ({ t with vm := (T.calling g mk a).vm } : State) L k n) :
    ∃ T', Stand p l e R s m args below meth c T' (locs ++ L) (cells + k) (slots + n) ∧ T'.heap = t.heap ∧ T'.vm = t.vm ∧ t = (T'.setTop g).pushFrame (.throwing x) := by
  obtain ⟨e2, q2, q3, q4, q5, q6⟩ := hsame
  have h : At T g.method c below := by rw [hg]; exact X.here
  have e3 : t = ({ (T.calling g mk a).setFrames t.frames with heap := t.heap, slotsUsed := t.slotsUsed } : State).setVm t.vm := by
    have : t = ({ t with vm := (T.calling g mk a).vm } : State).setVm t.vm := rfl
    rw [e2] at this
    exact this
  have hf₂ : t.frames = .throwing x :: .java g :: below := hend
  have hW' : T.WarmedH t.vm := hW
  obtain ⟨g₀, hg0⟩ := Option.isSome_iff_exists.mp h.top
  obtain ⟨r, hr⟩ := State.topJava?_eq_some.mp hg0
  have hrb : r = below := by have := X.tail; rw [hr] at this; exact this
  subst hrb
  have hs₂ : t = ((({ T with heap := t.heap, slotsUsed := t.slotsUsed } : State).setVm t.vm).setTop g).pushFrame (.throwing x) := by
    have hr' : (({ T with heap := t.heap, slotsUsed := t.slotsUsed } : State).setVm t.vm).frames = .java g₀ :: r := hr
    refine e3.trans ?_
    rw [hf₂, State.calling_eq h.top, State.setFrames_setFrames, State.setTop_of_frames _ hr']
    unfold State.pushFrame
    rw [State.setFrames_setFrames, State.frames_setFrames _ (State.cur_lt_of_frames hr')]
    rfl
  have hsame : T.sameButNew ({ T with heap := t.heap, slotsUsed := t.slotsUsed } : State) L k n := by
    refine ⟨?_, q2, q3, q4, q5, q6⟩
    obtain ⟨x, ht, -⟩ := State.frames_cons hr
    show ({ T with heap := t.heap, slotsUsed := t.slotsUsed } : State) = { T.setFrames T.frames with heap := t.heap, slotsUsed := t.slotsUsed }
    rw [State.setFrames_self ht]
  subst hg
  exact ⟨(({ T with heap := t.heap, slotsUsed := t.slotsUsed } : State).setVm t.vm),
    ⟨X.admits, X.cas, X.clock, X.frames, X.room, X.hears, X.method, X.code, (X.here.setHeapUsed t.heap t.slotsUsed).setVm hW'.alike, X.tail, State.WarmedH.trans X.warmed hW', X.limits, X.bytes, X.same.trans (hsame.setVm s.vm)⟩, rfl, rfl, hs₂⟩
section jCalls
variable {G : jG} {p : Program} {l : Launch} {e : Env} {R : Room} {s : State} {m : MethodId} {args : Array Value} {below : List Frame} {meth : Method} {c : Code}
variable {cc : ByteArray} {own nm : String} {nL d pc : Nat} {ret : Option FieldType} {ls : List (Nat × jT)} {st : List jT} {σ σ1 σ' : jS} {r v : jT}
theorem jwords_cat : ∀ {st : List jT}, (∀ w ∈ st, jok w) → ((st.map jv).map (fun w => w.category)).sum = jwords st
  | [], _ => rfl
  | w :: st, h => by
    rw [jall_cons] at h
    have ih := jwords_cat h.2
    unfold jwords at ih ⊢
    rw [List.map_cons, List.map_cons, List.map_cons, List.sum_cons, List.sum_cons, ih]
    congr 1
    by_cases h1 : w.1 = 1
    · rw [if_pos h1]; have hc := jcat h.1; rw [h1] at hc; simpa using hc
    · rw [if_neg h1]; exact jcat1 h.1 h1
/-- the result on the stack -/
def jpush (v : jT) (st : List jT) : List jT := if v.1 = 5 then st else v :: st
theorem jout_ret {v : jT} {o : Outcome} (h : jout v o) (h9 : ¬ v.1 = 9) : ∃ w : Option Value, o = .returned w ∧ ∀ st : List jT, (∀ x ∈ st, jok x) → w.toList ++ st.map jv = (jpush v st).map jv ∧ ∀ x ∈ jpush v st, jok x := by
  unfold jout at h
  unfold jpush
  by_cases h5 : v.1 = 5
  · rw [if_pos h5] at h
    exact ⟨none, h, fun st hst => by rw [if_pos h5]; exact ⟨rfl, hst⟩⟩
  · rw [if_neg h5, if_neg h9] at h
    exact ⟨some (jv v), h.1, fun st hst => by rw [if_neg h5]; exact ⟨rfl, jall_cons.mpr ⟨h.2, hst⟩⟩⟩
/-- the word of a callee's code, with handlers or without -/
def jcw (ws : List Cond) (y : MethodName) (bytes : ByteArray) (maxL : Nat) (rt : Option FieldType) : Prop := (ws = ws_ y bytes maxL rt ∧ Cond.code y bytes maxL rt ∈ lw_all) ∨ ∃ hh, ws = wsW_ y bytes maxL rt hh ∧ Cond.codeWith y bytes maxL rt hh ∈ lw_all
theorem jcw.ws {ws : List Cond} {y : MethodName} {bytes : ByteArray} {maxL : Nat} {rt : Option FieldType} {U : State} {a : Array Value} (h : jcw ws y bytes maxL rt) (hts : ∀ w ∈ lw_all, w.before args s = true) (hW : s.WarmedH U.vm) : ∀ w ∈ ws, w.before a U = true := by
  rcases h with ⟨rfl, h⟩ | ⟨hh, rfl, h⟩
  · exact jws hts h hW
  · intro w hw
    have hG := lw_methW h
    exact word_at hW (hG w hw).2 (hts w (hG w hw).1)
theorem jcw.h2 {ws : List Cond} {y : MethodName} {bytes : ByteArray} {maxL : Nat} {rt : Option FieldType} {U : State} {a : Array Value} (h : jcw ws y bytes maxL rt) (hw : ∀ w ∈ ws, w.before a U = true) : (Cond.code y bytes maxL rt).before a U = true ∨ ∃ hh, (Cond.codeWith y bytes maxL rt hh).before a U = true := by
  rcases h with ⟨rfl, h⟩ | ⟨hh, rfl, h⟩
  · exact .inl (hw _ List.mem_cons_self)
  · exact .inr ⟨hh, hw _ List.mem_cons_self⟩
theorem jcw.named {ws : List Cond} {y : MethodName} {bytes : ByteArray} {maxL : Nat} {rt : Option FieldType} (h : jcw ws y bytes maxL rt) (hts : ∀ w ∈ lw_all, w.before args s = true) : ∃ mk, s.methodNamed? y = some mk := by
  rcases h with ⟨-, h⟩ | ⟨hh, -, h⟩
  · exact Cond.code_named (hts _ h)
  · obtain ⟨m, _, _, h1, -⟩ := Cond.codeWith_spec (hts _ h)
    exact ⟨m, h1⟩
theorem jcw.sig {ws : List Cond} {y : MethodName} {bytes : ByteArray} {maxL : Nat} {rt : Option FieldType} {mk : MethodId} (h : jcw ws y bytes maxL rt) (hts : ∀ w ∈ lw_all, w.before args s = true) (hn : s.methodNamed? y = some mk) : ∃ methM, s.vm.method? mk = some methM ∧ parseMethodDescriptor y.desc = some methM.sig := by
  rcases h with ⟨-, h⟩ | ⟨hh, -, h⟩
  · obtain ⟨methM, cM, h1, -, -, -, -, -, -, h2⟩ := Cond.code_spec hn (hts _ h)
    exact ⟨methM, h1, h2⟩
  · obtain ⟨m, methM, cM, h0, h1, -, -, -, -, -, -, h2⟩ := Cond.codeWith_spec (hts _ h)
    cases hn.symm.trans h0
    exact ⟨methM, h1, h2⟩
/-- behind the invocation's own step: the callee runs, the walk goes on -/
theorem jgo {d' maxL len : Nat} {ws : List Cond} {y : MethodName} {As : List jT} {bytes : ByteArray} {rt : Option FieldType} {mk : MethodId} {ig : Instr} {U : State} {locs : List Loc} {la : Array Slot} (C : jC G (p, l, e, R, s, m, args, below, meth, c) cc own nL ret d nm)
    (X : Stand p l e R s m args below meth c U locs (U.heap.size - s.heap.size) (jsum U.heap - jsum s.heap)) (hM : jMet G l d' y ws As σ σ1 v) (hd' : d' + 1 ≤ d) (hmL : maxL ≤ 20) (hcode : jcw ws y bytes maxL rt) (hini : Cond.initialized y.cls ∈ lw_all)
    (hn : U.methodNamed? y = some mk) (hdg : decode cc pc = .ok (ig, len)) (hR : jRel G s σ U.heap) (hL : jLo G s locs U.heap) (ha : lv_has la nL (ls.map (fun q => (q.1, jv q.2)))) (hl : ∀ q ∈ ls, jok q.2) (hst : ∀ w ∈ st, jok w) (hWt : jwords st ≤ 33)
    (kk : ¬ v.1 = 9 → jWP G (p, l, e, R, s, m, args, below, meth, c) nL (pc + len) ls (jpush v st) σ1 σ' r) (kx : v.1 = 9 → 0 ≤ v.2 → jXW G (p, l, e, R, s, m, args, below, meth, c) nL pc ls σ1 σ' r v.2) : ∃ t, Steps p.tables e below (doInvoke e (U.setTop (F0 m pc la (st.map jv))) [] mk (As.map jv).toArray).1 t ∧ jEnd G below s σ' r t := by
  obtain ⟨C1, C2, C3, C4, C5, C6, C7, ⟨C81, C82, C83, C84⟩, C9, C10, C11, C12⟩ := C
  have hRU : jRel G U σ U.heap := hR.moved X.warmed
  have hb1 := hR.2.2.2.2.1
  have hb2 := hR.2.2.2.2.2.1
  have hL2 := hL.2.1
  have hL3 := hL.2.2
  have hwords : ∀ w ∈ ws, w.before (As.map jv).toArray U = true := hcode.ws C5 X.warmed
  have hini' : (Cond.initialized y.cls).before (As.map jv).toArray U = true := word_at X.warmed (lw_self _ hini).2 (C5 _ hini)
  obtain ⟨o, t, h1, h2, h3, h4, hW, L, h5, h6⟩ := jcallF (g := F0 m pc la (st.map jv)) (Wt := 33) (bytes := bytes) (maxL := maxL) (rt := rt) X hM hn rfl (ha.1.trans C3.symm) (by rw [C2]; exact hdg) (by rw [show (F0 m pc la (st.map jv)).stack = st.map jv from rfl, show (F0 m pc la (st.map jv)).monitorRoom = 0 from rfl, jwords_cat hst]; omega) (atoms_intro hwords) (hcode.h2 hwords) hini' hRU (by omega) (by omega) (by omega) (by omega)
  have hgrow := jgrow_of h5
  by_cases h9 : v.1 = 9
  · have h3' : o = .threw v.2.toNat ∧ 0 ≤ v.2 := by
      unfold jout at h3; rw [if_neg (by omega), if_pos h9] at h3; exact h3
    obtain ⟨rfl, h90⟩ := h3'
    obtain ⟨T', X', e1, e2, e3⟩ := jbackX X (g := F0 m pc la (st.map jv)) rfl h2 hW h5
    obtain ⟨X'', g1, g2⟩ := jtight X'
    have hRt : jRel G s σ1 T'.heap := by
      rw [e1]
      have q := h4
      refine ⟨q.1, q.2.1, q.2.2.1, q.2.2.2.1, q.2.2.2.2.1, ⟨q.2.2.2.2.2.1.1, q.2.2.2.2.2.1.2.1, jCn.back (X.warmed.alike.trans hW.alike) hR.2.2.2.2.2.1.2.2 q.2.2.2.2.2.1.2.2⟩, hR.2.2.2.2.2.2⟩
    have hLo : jLo G s (locs ++ L) T'.heap := ⟨fun x hx => by
      rcases List.mem_append.mp hx with hx | hx
      · exact hL.1 x hx
      · exact h6 x hx, g1, g2⟩
    obtain ⟨t2, s1, s2⟩ := kx h9 h90 T'.heap (locs ++ L) la (st.map jv) hRt hLo hl ha T' rfl X''
    refine ⟨t2, h1.trans ?_, s2⟩
    rw [e3]
    exact s1
  have kk := kk h9
  obtain ⟨w, rfl, hw⟩ := jout_ret h3 h9
  obtain ⟨T', X', e1, e2, e3⟩ := jback X (g := F0 m pc la (st.map jv)) rfl (by rw [C2]; exact hdg) h2 hW h5
  obtain ⟨X'', g1, g2⟩ := jtight X'
  obtain ⟨hw1, hw2⟩ := hw st hst
  have hRt : jRel G s σ1 T'.heap := by
    rw [e1]
    have q := h4
    refine ⟨q.1, q.2.1, q.2.2.1, q.2.2.2.1, q.2.2.2.2.1, ⟨q.2.2.2.2.2.1.1, q.2.2.2.2.2.1.2.1, jCn.back (X.warmed.alike.trans hW.alike) hR.2.2.2.2.2.1.2.2 q.2.2.2.2.2.1.2.2⟩, hR.2.2.2.2.2.2⟩
  have hLo : jLo G s (locs ++ L) T'.heap := ⟨fun x hx => by
    rcases List.mem_append.mp hx with hx | hx
    · exact hL.1 x hx
    · exact h6 x hx, g1, g2⟩
  obtain ⟨t2, s1, s2⟩ := kk T'.heap (locs ++ L) la hRt hLo hw2 hl ha T' rfl X''
  refine ⟨t2, h1.trans ?_, s2⟩
  rw [e3]
  have : ({ F0 m pc la (st.map jv) with pc := (F0 m pc la (st.map jv)).pc + len, stack := w.toList ++ (F0 m pc la (st.map jv)).stack } : JFrame) = F0 m (pc + len) la ((jpush v st).map jv) := by
    show ({ method := m, pc := pc + len, locals := la, stack := w.toList ++ st.map jv, locked := none } : JFrame) = _
    rw [hw1]
  rw [this]
  exact s1
variable {X : jX} {d' maxL index : Nat} {y : MethodName} {a : Int} {As : List jT} {bytes : ByteArray} {rt : Option FieldType} {stk : List jT}
/-- a link to a method, and how the receiver's class selects it -/
def jln_ (own : String) (index : Nat) (y : MethodName) : Prop := Cond.methodLink own index y ∈ lw_all ∨ ∃ host, Cond.methodLinkNest own index y host ∈ lw_tbl
def jsl_ (C : String) (y : MethodName) : Prop := Cond.selects C y y ∈ lw_all ∨ Cond.privateMethod y ∈ lw_tbl ∧ ∃ n, Cond.instantiable y.cls n ∈ lw_all
/-- invokevirtual of the method that the receiver's class has -/
theorem jr_callV {ws : List Cond} (ci : Nat) {rr : vw_C} (C : jC G X cc own nL ret d nm) (hXl : X.2.1 = l)
    (hM : (∀ w ∈ (2, a) :: As, jok w) → jMet G l d' y ws ((2, a) :: As) σ σ1 v) (hd' : d' + 1 ≤ d) (hmL : maxL ≤ 20) (w1 : jln_ own index y) (w2 : Cond.instanceMethod y ∈ lw_all) (w3 : jsl_ rr.1 y) (w4 : Cond.initialized y.cls ∈ lw_all) (w5 : jcw ws y bytes maxL rt)
    (hy : y.cls ≠ "java/lang/invoke/MethodHandle" ∧ y.cls ≠ "java/lang/invoke/VarHandle") (hn : (parseMethodDescriptor y.desc).map (fun d => d.parameters.length) = some As.length) (hcl : jCl[ci]? = some rr) (hci : ci < 1000) (h0 : 0 ≤ a) (hK : jK σ a = ci) (hd : decode cc pc = .ok (.invokevirtual index, 3)) (hstk : As.reverse ++ (2, a) :: st = stk) (hWt : jwords st ≤ 33)
    (kk : ¬ v.1 = 9 → jWP G X nL (pc + 3) ls (jpush v st) σ1 σ' r) (kx : v.1 = 9 → 0 ≤ v.2 → jXW G X nL pc ls σ1 σ' r v.2) : jWP G X nL pc ls stk σ σ' r := by
  obtain ⟨p, l', e, R, s, m, args, below, meth, c⟩ := X
  cases hXl
  intro H locs la hR hL hs hl ha
  subst hstk
  have hst : ∀ w ∈ st, jok w := fun w hw => hs w (by simp [hw])
  have hM := hM (fun w hw => hs w (by simp at hw ⊢; first | exact hw.elim (fun h => Or.inr (Or.inl h)) (fun h => Or.inl h) | exact Or.inl hw))
  intro T hT X
  have C' := C
  obtain ⟨C1, C2, C3, C4, C5, C6, C7, C8, C9, C10, C11, C12⟩ := C'
  obtain ⟨cellB, hcB, q2, q3, hfB, kB, hkB, hkindB⟩ := jcls hR hcl h0 hK hci
  obtain ⟨mk, methM, hnamed, hmethM, hstM, habM⟩ := Cond.instanceMethod_spec (C5 _ w2)
  obtain ⟨methM', hmethM', hsigM⟩ := w5.sig C5 hnamed
  cases hmethM.symm.trans hmethM'
  have hcls : s.vm.findClass rr.1 = some cellB.cls := by rw [q2]; exact hfB
  have hse : ∃ kP, s.vm.classes[mk.cls]? = some kP ∧ kP.isInterface = false ∧ selectMethod e.platform s.vm cellB.cls mk = .method mk := by
    rcases w3 with w3 | ⟨w3, nn, w6⟩
    · obtain ⟨c2, r2, m2, s1, s2, s3, s4, kP, hkP, hkPi⟩ := Cond.selects_spec (C5 _ w3)
      cases hcls.symm.trans s1
      cases (State.methodFound?_of_named hnamed hy).symm.trans s2
      cases hnamed.symm.trans s3
      exact ⟨kP, hkP, hkPi, by rw [Launch.admits_selectMethod X.admits]; exact s4⟩
    · obtain ⟨c2, kP, s1, s2, -, s4, -⟩ := Cond.instantiable_spec (C5 _ w6)
      cases (findClass_of_methodNamed hnamed).symm.trans s1
      rw [Bool.or_eq_false_iff] at s4
      exact ⟨kP, s2, s4.1, selectMethod_private hmethM (Cond.privateMethod_at (va_Nw.use (A := #[]) rfl (hR.2.2.2.2.2.2.2.2.1 _ w3 rfl)) mk methM hnamed hmethM)⟩
  obtain ⟨kP, hkP, hkPi, hselP⟩ := hse
  have hlen : (As.map jv).length = methM.sig.parameters.length := by
    rw [hsigM] at hn
    simpa using hn.symm
  have hgo : ∃ vm₁, Stand p l' e R s m args below meth c (T.setVm vm₁) locs (H.size - s.heap.size) (jsum H - jsum s.heap) ∧ ∀ target, (∀ acts, Steps p.tables e below (doInvoke e ((T.setVm vm₁).setTop { (F0 m pc la (List.map jv (As.reverse ++ (2, a) :: st))) with stack := st.map jv }) acts mk (.ref a.toNat :: As.map jv).toArray).1 target) → Steps p.tables e below (T.setTop (F0 m pc la (List.map jv (As.reverse ++ (2, a) :: st)))) target := by
    rcases w1 with w1 | ⟨host, w1⟩
    · exact X.invokevirtual C1 C4 (C5 _ w1) hnamed hmethM hstM hkP hkPi hy (a := a.toNat) (cell := cellB) (by rw [hT]; exact hcB)
        (fun z h => by rw [q3] at h; cases h) hselP hmethM habM hkP hkPi (g := F0 m pc la (List.map jv (As.reverse ++ (2, a) :: st))) rfl (argsL := As.map jv) (rest := st.map jv) hlen (by
          show List.map jv (As.reverse ++ (2, a) :: st) = _
          rw [List.map_append, List.map_cons, jv_r h0, List.map_reverse]) (by rw [C2]; exact hd)
    · exact X.invokevirtualNest C1 C4 (va_Nw.use rfl (hR.2.2.2.2.2.2.2.2.1 _ w1 rfl)) hnamed hmethM hstM hkP hkPi hy (a := a.toNat) (cell := cellB) (by rw [hT]; exact hcB)
        (fun z h => by rw [q3] at h; cases h) hselP hmethM habM hkP hkPi (g := F0 m pc la (List.map jv (As.reverse ++ (2, a) :: st))) rfl (argsL := As.map jv) (rest := st.map jv) hlen (by
          show List.map jv (As.reverse ++ (2, a) :: st) = _
          rw [List.map_append, List.map_cons, jv_r h0, List.map_reverse]) (by rw [C2]; exact hd)
  obtain ⟨vm₁, X₁, hstep₁⟩ := hgo
  have hhp : (T.setVm vm₁).heap = H := hT
  have X₂ : Stand p l' e R s m args below meth c (T.setVm vm₁) locs ((T.setVm vm₁).heap.size - s.heap.size) (jsum (T.setVm vm₁).heap - jsum s.heap) := by rw [hhp]; exact X₁
  obtain ⟨t, k1, k2⟩ := jgo (la := la) C X₂ hM hd' hmL w5 w4 (X₁.named hnamed) hd (by rw [hhp]; exact hR) (by rw [hhp]; exact hL) ha hl hst hWt kk kx
  refine ⟨t, hstep₁ _ fun acts => ?_, k2⟩
  rw [doInvoke_state]
  rw [List.map_cons, jv_r h0] at k1
  exact k1
/-- invokestatic -/
theorem jr_callS {ws : List Cond} (C : jC G X cc own nL ret d nm) (hXl : X.2.1 = l)
    (hM : (∀ w ∈ As, jok w) → jMet G l d' y ws As σ σ1 v) (hd' : d' + 1 ≤ d) (hmL : maxL ≤ 20) (w1 : jln_ own index y) (w2 : Cond.static y ∈ lw_all) (w4 : Cond.initialized y.cls ∈ lw_all) (w5 : jcw ws y bytes maxL rt)
    (hy : y.cls ≠ "java/lang/invoke/MethodHandle" ∧ y.cls ≠ "java/lang/invoke/VarHandle") (hn : (parseMethodDescriptor y.desc).map (fun d => d.parameters.length) = some As.length) (hd : decode cc pc = .ok (.invokestatic index, 3)) (hstk : As.reverse ++ st = stk) (hWt : jwords st ≤ 33)
    (kk : ¬ v.1 = 9 → jWP G X nL (pc + 3) ls (jpush v st) σ1 σ' r) (kx : v.1 = 9 → 0 ≤ v.2 → jXW G X nL pc ls σ1 σ' r v.2) : jWP G X nL pc ls stk σ σ' r := by
  obtain ⟨p, l', e, R, s, m, args, below, meth, c⟩ := X
  cases hXl
  intro H locs la hR hL hs hl ha
  subst hstk
  have hst : ∀ w ∈ st, jok w := fun w hw => hs w (by simp [hw])
  have hM := hM (fun w hw => hs w (by simp at hw ⊢; first | exact hw.elim (fun h => Or.inr (Or.inl h)) (fun h => Or.inl h) | exact Or.inl hw))
  intro T hT X
  have C' := C
  obtain ⟨C1, C2, C3, C4, C5, C6, C7, C8, C9, C10, C11, C12⟩ := C'
  obtain ⟨mk, hnamed⟩ := w5.named C5
  obtain ⟨methM, hmethM, hsigM⟩ := w5.sig C5 hnamed
  have hstatic : methM.isStatic = true := Cond.static_spec hnamed hmethM (C5 _ w2)
  obtain ⟨kP, hkP, -⟩ := className_of_methodNamed hnamed
  have hinitP : kP.init = .initialized := Cond.initialized_spec (findClass_of_methodNamed hnamed) hkP (C5 _ w4)
  have hlen : (As.map jv).length = methM.sig.parameters.length := by
    rw [hsigM] at hn
    simpa using hn.symm
  have hgo : ∃ vm₁, Stand p l' e R s m args below meth c (T.setVm vm₁) locs (H.size - s.heap.size) (jsum H - jsum s.heap) ∧ ∀ target, (∀ acts, Steps p.tables e below (doInvoke e ((T.setVm vm₁).setTop { (F0 m pc la (List.map jv (As.reverse ++ st))) with stack := st.map jv }) acts mk (As.map jv).toArray).1 target) → Steps p.tables e below (T.setTop (F0 m pc la (List.map jv (As.reverse ++ st)))) target := by
    rcases w1 with w1 | ⟨host, w1⟩
    · exact X.invokestatic C1 C4 (C5 _ w1) hnamed hmethM hstatic hkP hinitP hy (g := F0 m pc la (List.map jv (As.reverse ++ st))) rfl (argsL := As.map jv) (rest := st.map jv) hlen (by
          show List.map jv (As.reverse ++ st) = _
          rw [List.map_append, List.map_reverse]) (by rw [C2]; exact hd)
    · exact X.invokestaticNest C1 C4 (va_Nw.use rfl (hR.2.2.2.2.2.2.2.2.1 _ w1 rfl)) hnamed hmethM hstatic hkP hinitP hy (g := F0 m pc la (List.map jv (As.reverse ++ st))) rfl (argsL := As.map jv) (rest := st.map jv) hlen (by
          show List.map jv (As.reverse ++ st) = _
          rw [List.map_append, List.map_reverse]) (by rw [C2]; exact hd)
  obtain ⟨vm₁, X₁, hstep₁⟩ := hgo
  have hhp : (T.setVm vm₁).heap = H := hT
  have X₂ : Stand p l' e R s m args below meth c (T.setVm vm₁) locs ((T.setVm vm₁).heap.size - s.heap.size) (jsum (T.setVm vm₁).heap - jsum s.heap) := by rw [hhp]; exact X₁
  obtain ⟨t, k1, k2⟩ := jgo (la := la) C X₂ hM hd' hmL w5 w4 (X₁.named hnamed) hd (by rw [hhp]; exact hR) (by rw [hhp]; exact hL) ha hl hst hWt kk kx
  refine ⟨t, hstep₁ _ fun acts => ?_, k2⟩
  rw [doInvoke_state]
  exact k1
/-- invokespecial of a constructor -/
theorem jr_callI (C : jC G X cc own nL ret d nm) (hXl : X.2.1 = l)
    (hM : (∀ w ∈ (2, a) :: As, jok w) → jMet G l d' y (ws_ y bytes maxL none) ((2, a) :: As) σ σ1 v) (hd' : d' + 1 ≤ d) (hmL : maxL ≤ 20) (w1 : jln_ own index y) (w2 : Cond.instanceMethod y ∈ lw_all) (w4 : Cond.initialized y.cls ∈ lw_all) (w5 : Cond.code y bytes maxL none ∈ lw_all) (hy1 : y.name = "<init>")
    (hy : y.cls ≠ "java/lang/invoke/MethodHandle" ∧ y.cls ≠ "java/lang/invoke/VarHandle") (hn : (parseMethodDescriptor y.desc).map (fun d => d.parameters.length) = some As.length) (h0 : 0 ≤ a) (hd : decode cc pc = .ok (.invokespecial index, 3)) (hstk : As.reverse ++ (2, a) :: st = stk) (hWt : jwords st ≤ 33)
    (kk : ¬ v.1 = 9 → jWP G X nL (pc + 3) ls (jpush v st) σ1 σ' r) (kx : v.1 = 9 → 0 ≤ v.2 → jXW G X nL pc ls σ1 σ' r v.2) : jWP G X nL pc ls stk σ σ' r := by
  obtain ⟨p, l', e, R, s, m, args, below, meth, c⟩ := X
  cases hXl
  intro H locs la hR hL hs hl ha
  subst hstk
  have hst : ∀ w ∈ st, jok w := fun w hw => hs w (by simp [hw])
  have hM := hM (fun w hw => hs w (by simp at hw ⊢; first | exact hw.elim (fun h => Or.inr (Or.inl h)) (fun h => Or.inl h) | exact Or.inl hw))
  intro T hT X
  have C' := C
  obtain ⟨C1, C2, C3, C4, C5, C6, C7, C8, C9, C10, C11, C12⟩ := C'
  have hpl : e.platform.magicAccessors = ({} : Platform).magicAccessors := by rw [X.admits.platform]
  rcases w1 with w1 | ⟨host, w1⟩
  · obtain ⟨mk, methM, cM, kP, vm₁, hnamed, hmethM, hcodeM, -, hlocalsM, -, hkP, -, hW₁, hstep₁⟩ := Steps.initColdArgs (e := e) X.here C1 X.warmed hpl C4 hy1 hy (C5 _ w1) (C5 _ w2) (C5 _ w5) (f := F0 m pc la (List.map jv (As.reverse ++ (2, a) :: st))) (argsL := As.map jv) (rest := st.map jv) (a := a.toNat) rfl (fun sig h => by rw [h] at hn; simpa using hn.symm) (by
        show List.map jv (As.reverse ++ (2, a) :: st) = _
        rw [List.map_append, List.map_cons, jv_r h0, List.map_reverse]) (by rw [C2]; exact hd)
    have X₁ := X.noted hW₁
    have hhp : (T.setVm vm₁).heap = H := hT
    have X₂ : Stand p l' e R s m args below meth c (T.setVm vm₁) locs ((T.setVm vm₁).heap.size - s.heap.size) (jsum (T.setVm vm₁).heap - jsum s.heap) := by rw [hhp]; exact X₁
    obtain ⟨t, k1, k2⟩ := jgo (la := la) C X₂ hM hd' hmL (.inl ⟨rfl, w5⟩) w4 (X₁.named hnamed) hd (by rw [hhp]; exact hR) (by rw [hhp]; exact hL) ha hl hst hWt kk kx
    refine ⟨t, hstep₁ _ fun acts => ?_, k2⟩
    rw [doInvoke_state]
    rw [List.map_cons, jv_r h0] at k1
    exact k1
  · obtain ⟨mk, methM, cM, kP, vm₁, hnamed, hmethM, hcodeM, -, hlocalsM, -, hkP, -, hW₁, hstep₁⟩ := Steps.initColdArgsNest (e := e) X.here C1 X.warmed hpl C4 hy1 hy (va_Nw.use rfl (hR.2.2.2.2.2.2.2.2.1 _ w1 rfl)) (C5 _ w2) (C5 _ w5) (f := F0 m pc la (List.map jv (As.reverse ++ (2, a) :: st))) (argsL := As.map jv) (rest := st.map jv) (a := a.toNat) rfl (fun sig h => by rw [h] at hn; simpa using hn.symm) (by
        show List.map jv (As.reverse ++ (2, a) :: st) = _
        rw [List.map_append, List.map_cons, jv_r h0, List.map_reverse]) (by rw [C2]; exact hd)
    have X₁ := X.noted hW₁
    have hhp : (T.setVm vm₁).heap = H := hT
    have X₂ : Stand p l' e R s m args below meth c (T.setVm vm₁) locs ((T.setVm vm₁).heap.size - s.heap.size) (jsum (T.setVm vm₁).heap - jsum s.heap) := by rw [hhp]; exact X₁
    obtain ⟨t, k1, k2⟩ := jgo (la := la) C X₂ hM hd' hmL (.inl ⟨rfl, w5⟩) w4 (X₁.named hnamed) hd (by rw [hhp]; exact hR) (by rw [hhp]; exact hL) ha hl hst hWt kk kx
    refine ⟨t, hstep₁ _ fun acts => ?_, k2⟩
    rw [doInvoke_state]
    rw [List.map_cons, jv_r h0] at k1
    exact k1
/-- Object's constructor -/
theorem jr_objInit (C : jC G X cc own nL ret d nm) (w1 : Cond.methodLink own index Lib.objectInit ∈ lw_all) (w2 : Cond.instanceMethod Lib.objectInit ∈ lw_all) (w3 : Cond.code Lib.objectInit ⟨#[0xb1]⟩ 1 none ∈ lw_all) (h0 : 0 ≤ a) (hd : decode cc pc = .ok (.invokespecial index, 3)) (hd1 : 1 ≤ d) (hWt : jwords st ≤ 33)
    (kk : jWP G X nL (pc + 3) ls st σ σ' r) : jWP G X nL pc ls ((2, a) :: st) σ σ' r := by
  obtain ⟨p, l', e, R, s, m, args, below, meth, c⟩ := X
  intro H locs la hR hL hs hl ha
  rw [jall_cons] at hs
  obtain ⟨C1, C2, C3, C4, C5, C6, C7, C8, C9, C10, C11, C12⟩ := C
  rw [List.map_cons, jv_r h0]
  exact W.objInit C1 C2 C4 (C5 _ w1) (C5 _ w2) (C5 _ w3) rfl (ha.1.trans C3.symm) rfl hd (by omega) (by rw [jwords_cat hs.2]; show 0 + _ + _ ≤ _; omega) (kk H locs la hR hL hs.2 hl ha)
/-- nobody catches: the method ends with the exception -/
theorem jx_leave {v : Int} (C : jC G X cc own nL ret d nm) (hH : jNoH X) (h0 : 0 ≤ v) : jXW G X nL pc ls σ σ (9, v) v := by
  obtain ⟨p, l', e, R, s, m, args, below, meth, c⟩ := X
  intro H locs la stv hR hL hl ha T hT X
  have hlk : meth.locks = false := C.2.2.2.2.2.1
  have hH : c.exceptionTable = #[] := hH.1
  have hb1 := hR.2.2.2.2.1
  have hb2 := hR.2.2.2.2.2.1
  obtain ⟨k1, k2, k3, k4, k5⟩ := X.leaveThrown v.toNat (g := F0 m pc la stv) rfl rfl rfl (by rw [hH]; intro x hx; cases hx)
  refine ⟨_, k1, .threw v.toNat, k2, k3, ⟨⟨rfl, h0⟩, ?_⟩, k4, locs, k5.mono (by omega) (by omega), hL.1⟩
  have : (T.setFrames (.throwing v.toNat :: below)).heap = H := hT
  rw [this]
  exact hR.moved k4
theorem jr_athrow {v : Int} (C : jC G X cc own nL ret d nm) (hd : decode cc pc = .ok (.athrow, 1)) (h0 : 0 ≤ v) (kx : jXW G X nL pc ls σ σ' r v) : jWP G X nL pc ls ((2, v) :: st) σ σ' r := by
  obtain ⟨p, l', e, R, s, m, args, below, meth, c⟩ := X
  intro H locs la hR hL hs hl ha T hT X
  obtain ⟨t, k1, k2⟩ := kx H locs la (st.map jv) hR hL hl ha T hT X
  refine ⟨t, ?_, k2⟩
  have hexec : p.tables.exec = Jvm.exec := C.1
  have hdg : decode c.code pc = .ok (.athrow, 1) := by rw [C.2.1]; exact hd
  rw [List.map_cons, jv_r h0]
  jvm_step X.here [hexec, hdg, athrow.wp_sem]
  exact k1
end jCalls
