/-! calls -/
section jCall
variable {p : Program} {l : Launch} {e : Env} {R : Room} {s : State} {m : MethodId} {args : Array Value} {below : List Frame} {meth : Method} {c : Code} {T : State} {locs : List Loc} {cells slots : Nat}
theorem jsum_grown {A B : Heap} (h1 : A.size ≤ B.size) (h2 : ∀ (a : Nat) (c : Cell), A[a]? = some c → ∃ c' : Cell, B[a]? = some c' ∧ c'.slots.size = c.slots.size) : jsum B = jsum A + ((B.toList.drop A.size).map (fun c => c.slots.size)).sum := by
  have e : B.toList.map (fun c => c.slots.size) = A.toList.map (fun c => c.slots.size) ++ (B.toList.drop A.size).map (fun c => c.slots.size) := by
    apply List.ext_getElem?
    intro i
    by_cases hi : i < A.size
    · rw [List.getElem?_append_left (by simpa using hi)]
      obtain ⟨c', g1, g2⟩ := h2 i A[i] (Array.getElem?_eq_getElem hi)
      simp only [List.getElem?_map, Array.getElem?_toList]
      rw [g1, Array.getElem?_eq_getElem hi]
      simp [g2]
    · rw [List.getElem?_append_right (by simpa using hi)]
      simp only [List.length_map, Array.length_toList, List.getElem?_map, List.getElem?_drop]
      rw [show A.size + (i - A.size) = i by omega]
  unfold jsum
  rw [e, List.sum_append]
theorem jgrow_of {u t : State} {L : List Loc} {k n : Nat} (h : u.sameButNew t L k n) : u.heap.size ≤ t.heap.size ∧ jsum t.heap = jsum u.heap + ((t.heap.toList.drop u.heap.size).map (fun c => c.slots.size)).sum := by
  obtain ⟨-, h2, -, -, -, h6⟩ := h
  refine ⟨h2, jsum_grown h2 (fun a c hc => ?_)⟩
  obtain ⟨c', g1, -, g3, -⟩ := h6 a c hc
  exact ⟨c', g1, g3⟩
/-- the counters as they are -/
theorem jtight (X : Stand p l e R s m args below meth c T locs cells slots) : Stand p l e R s m args below meth c T locs (T.heap.size - s.heap.size) (jsum T.heap - jsum s.heap) ∧ s.heap.size ≤ T.heap.size ∧ jsum s.heap ≤ jsum T.heap := by
  have hs := X.same
  obtain ⟨g1, g2⟩ := jgrow_of hs
  have g1 : s.heap.size ≤ T.heap.size := g1
  have g2 : jsum T.heap = jsum s.heap + ((T.heap.toList.drop s.heap.size).map (fun c => c.slots.size)).sum := g2
  obtain ⟨h1, h2, h3, h4, h5, h6⟩ := hs
  refine ⟨{ X with same := ⟨h1, h2, ?_, h4, ?_, h6⟩ }, g1, by omega⟩
  · show T.heap.size ≤ s.heap.size + (T.heap.size - s.heap.size)
    omega
  · show ((T.heap.toList.drop s.heap.size).map (fun c => c.slots.size)).sum ≤ jsum T.heap - jsum s.heap
    omega
/-- a call comes to its end -/
theorem jcallF {G : jG} {d' maxL Wt len : Nat} {y : MethodName} {ws : List Cond} {As : List jT} {σ σ' : jS} {r : jT} {bytes : ByteArray} {rt : Option FieldType} {mk : MethodId} {g : JFrame} {ig : Instr} (X : Stand p l e R s m args below meth c T locs cells slots) (hM : jMet G l d' y ws As σ σ' r)
    (hn : T.methodNamed? y = some mk) (hg : g.method = m) (hsize : g.locals.size = c.maxLocals) (hdg : decode c.code g.pc = .ok (ig, len)) (hW : 2 * g.monitorRoom + (g.stack.map fun v => v.category).sum ≤ Wt)
    (h1 : (headSpec ws (jRm G d' σ)).pre.before (As.map jv).toArray T = true) (h2 : (Cond.code y bytes maxL rt).before (As.map jv).toArray T = true ∨ ∃ hh, (Cond.codeWith y bytes maxL rt hh).before (As.map jv).toArray T = true) (h3 : (Cond.initialized y.cls).before (As.map jv).toArray T = true) (hR : jRel G T σ T.heap)
    (hfr : d' + 1 ≤ R.frames) (hlo : Wt + (maxL + 11) + 64 * d' ≤ R.locals) (hce : cells + (gN G - T.heap.size) ≤ R.cells) (hsl : slots + (gU G - jsum T.heap) ≤ R.slots) :
    ∃ (o : Outcome) (t : State), Steps p.tables e below (doInvoke e (T.setTop g) [] mk (As.map jv).toArray).1 t ∧ Ended t (.java g :: below) o ∧ jout r o ∧ jRel G t σ' t.heap ∧ jFr (T.calling g mk (As.map jv).toArray) t (gN G - T.heap.size) (gU G - jsum T.heap) (fun q => gb G ≤ q) := by
  obtain ⟨methY, cY, hmY, hcY, hlY⟩ : ∃ methY cY, T.vm.method? mk = some methY ∧ methY.code = some cY ∧ cY.maxLocals = maxL := by
    rcases h2 with h2 | ⟨hh, h2⟩
    · obtain ⟨methY, cY, q1, q2, -, q4, -, -, -, -⟩ := Cond.code_spec hn h2
      exact ⟨methY, cY, q1, q2, q4⟩
    · obtain ⟨m', methY, cY, q0, q1, q2, -, q4, -⟩ := Cond.codeWith_spec h2
      cases hn.symm.trans q0
      exact ⟨methY, cY, q1, q2, q4⟩
  obtain ⟨kY, hkY, -⟩ := className_of_methodNamed hn
  have hinitY : kY.init = .initialized := Cond.initialized_spec (findClass_of_methodNamed hn) hkY h3
  have h : At T g.method c below := by rw [hg]; exact X.here
  have hrm := jRm_eq (d := d') hR
  have happ : (headSpec ws (jRm G d' σ)).appliesLoose y e.platform (T.calling g mk (As.map jv).toArray) = true :=
    Spec.appliesLoose_calling (g := g) h hdg hn hkY hinitY
      (X.room_calling (g := g) (R' := jRm G d' σ) hsize hmY hcY (by rw [hrm]; exact hfr) (by rw [hrm, hlY]; dsimp only; omega) (by rw [hrm]; exact hce) (by rw [hrm]; exact hsl)) h1
  obtain ⟨mid, hmid⟩ := h.above
  have hfr : (T.setTop g).frames = (.java g :: mid) ++ below := by rw [State.frames_setTop' g h.top, hmid]; rfl
  have hRc : jRel G (T.calling g mk (As.map jv).toArray) σ (T.calling g mk (As.map jv).toArray).heap := hR.moved (u := T) (U := T.calling g mk (As.map jv).toArray) (State.WarmedH.refl T)
  obtain ⟨o, s₂, hsteps, -, hend, ⟨hq1, hq2⟩, hq3⟩ := Steps.callFree hM p X.admits X.cas X.clock (acts := []) hfr happ ⟨rfl, hRc⟩ trivial
  rw [State.frames_setTop' g h.top, X.tail] at hend
  exact ⟨o, s₂, hsteps, hend, hq1, hq2, hq3⟩
/-- the call returned: the walk stands again -/
theorem jback {g : JFrame} {mk : MethodId} {a : Array Value} {t : State} {v : Option Value} {L : List Loc} {k n len : Nat} {ig : Instr} (X : Stand p l e R s m args below meth c T locs cells slots) (hg : g.method = m) (hdg : decode c.code g.pc = .ok (ig, len))
    (hend : Ended t (.java g :: below) (.returned v)) (hW : (T.calling g mk a).WarmedH t.vm) (hsame : (T.calling g mk a).sameButNew ({ t with vm := (T.calling g mk a).vm } : State) L k n) :
    ∃ T', Stand p l e R s m args below meth c T' (locs ++ L) (cells + k) (slots + n) ∧ T'.heap = t.heap ∧ T'.vm = t.vm ∧ t = T'.setTop { g with pc := g.pc + len, stack := v.toList ++ g.stack } := by
  obtain ⟨e2, q2, q3, q4, q5, q6⟩ := hsame
  have h : At T g.method c below := by rw [hg]; exact X.here
  have e3 : t = ({ (T.calling g mk a).setFrames t.frames with heap := t.heap, slotsUsed := t.slotsUsed } : State).setVm t.vm := by
    have : t = ({ t with vm := (T.calling g mk a).vm } : State).setVm t.vm := rfl
    rw [e2] at this
    exact this
  obtain ⟨c₂, i₂, len₂, hc₂, hd₂, hf₂⟩ := hend
  have hW' : T.WarmedH t.vm := hW
  have hcc : c₂ = c := by
    have h1 : t.code? g.method = T.code? g.method := by
      rw [State.code?_eq, State.code?_eq, hW'.alike.method?]
    exact Option.some.inj (hc₂.symm.trans (h1.trans h.code))
  subst hcc
  have hlen : len₂ = len := by rw [hdg] at hd₂; cases hd₂; rfl
  subst hlen
  obtain ⟨g₀, hg0⟩ := Option.isSome_iff_exists.mp h.top
  obtain ⟨r, hr⟩ := State.topJava?_eq_some.mp hg0
  have hrb : r = below := by have := X.tail; rw [hr] at this; exact this
  subst hrb
  have hs₂ : t = (({ T with heap := t.heap, slotsUsed := t.slotsUsed } : State).setVm t.vm).setTop { g with pc := g.pc + len₂, stack := v.toList ++ g.stack } := by
    have hr' : (({ T with heap := t.heap, slotsUsed := t.slotsUsed } : State).setVm t.vm).frames = .java g₀ :: r := hr
    refine e3.trans ?_
    rw [hf₂, State.calling_eq h.top, State.setFrames_setFrames, State.setTop_of_frames _ hr']
    rfl
  have hsame : T.sameButNew ({ T with heap := t.heap, slotsUsed := t.slotsUsed } : State) L k n := by
    refine ⟨?_, q2, q3, q4, q5, q6⟩
    obtain ⟨x, ht, -⟩ := State.frames_cons hr
    show ({ T with heap := t.heap, slotsUsed := t.slotsUsed } : State) = { T.setFrames T.frames with heap := t.heap, slotsUsed := t.slotsUsed }
    rw [State.setFrames_self ht]
  subst hg
  exact ⟨(({ T with heap := t.heap, slotsUsed := t.slotsUsed } : State).setVm t.vm),
    ⟨X.admits, X.cas, X.clock, X.frames, X.room, X.hears, X.method, X.code, (X.here.setHeapUsed t.heap t.slotsUsed).setVm hW'.alike, X.tail, State.WarmedH.trans X.warmed hW', X.limits, X.bytes, X.same.trans (hsame.setVm s.vm)⟩, rfl, rfl, hs₂⟩
/-- the words of a callee at the call -/
theorem jws {y : MethodName} {cc : ByteArray} {nL : Nat} {ret : Option FieldType} {U : State} {a : Array Value} (hts : ∀ w ∈ lw_all, w.before args s = true) (hc : Cond.code y cc nL ret ∈ lw_all) (hW : s.WarmedH U.vm) : ∀ w ∈ ws_ y cc nL ret, w.before a U = true := by
  have hG := lw_meth hc
  intro w hw
  exact word_at hW (hG w hw).2 (hts w (hG w hw).1)
end jCall
