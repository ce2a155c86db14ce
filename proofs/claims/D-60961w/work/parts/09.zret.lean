/-! returns of narrow ints; thrown exceptions -/
section jZ
theorem W.zretN {p : Program} {l : Launch} {e : Env} {R : Room} {s : State} {m : MethodId} {args : Array Value} {below : List Frame} {meth : Method} {c : Code} {H : Heap} {locs : List Loc} {cells slots : Nat} {cc : ByteArray} {Qc : Array Value → State → Outcome → State → Prop} {free : Addr → Prop} {v w : Int32} {ty : FieldType} (hexec : p.tables.exec = Jvm.exec) (hb : c.code = cc) (hr : meth.sig.returnType = some ty) (hn : narrow ty (.int v) = .int w)
    (hq : ∀ t : State, t.heap = H → s.WarmedH t.vm → Qc args s (.returned (some (.int w))) t) (hf : ∀ q ∈ locs, free q.base)
    {pc : Nat} {ls : Array Slot} (hdg : decode cc pc = .ok (.ireturn, 1)) (hlocks : meth.locks = false) : W p l e R s m args below meth c H locs cells slots (MQ below Qc args s cells slots free) (F0 m pc ls [.int v]) := by
  intro T hT X
  obtain ⟨fs, hret, hrun, hended, hW, hframe⟩ := X.leave (v := some (.int w)) (fun h => by rw [hr] at h; cases h)
  have hmeth' : T.vm.method? m = some meth := X.method'
  refine ⟨T.setFrames fs, ?_, .returned (some (.int w)), hrun, hended, hq _ hT hW, locs, ⟨⟨_, rfl⟩, hW, hframe⟩, hf⟩
  jvm_step X.here [X.here.top, hexec, hb, hdg, hmeth', hr, hn]
  (try refine ⟨rfl, ?_⟩); (try refine ⟨rfl, ?_⟩)
  first | (intro acts; rw [hret _ acts rfl rfl rfl]) | rw [hret _ _ rfl rfl rfl]
  exact Steps.refl _
variable {G : jG} {X : jX} {cc : ByteArray} {own nm : String} {nL d pc : Nat} {ls : List (Nat × jT)} {st : List jT} {σ : jS}
theorem jr_zreturn {v : Int} (C : jC G X cc own nL (some .boolean) d nm) (hd : decode cc pc = .ok (.ireturn, 1)) : jWP G X nL pc ls [(0, v)] σ σ (0, wz v) := by
  obtain ⟨p, l, e, R, s, m, args, below, meth, c⟩ := X
  intro H locs la hR hL hs hl ha
  rw [jall_cons] at hs
  have hlk : meth.locks = false := C.2.2.2.2.2.1
  have hb := hR.2.2.2.2.1
  have hb2 := hR.2.2.2.2.2.1
  refine W.mono (fun t => jEnd_of (k := H.size - s.heap.size) (n := jsum H - jsum s.heap) (by omega) (by omega)) (W.zretN (w := Int32.ofInt (wz v)) C.1 C.2.1 C.2.2.2.2.2.2.1 (by rw [wz, jo_i]; rfl) (fun t ht hW => ⟨?_, ?_⟩) hL.1 hd hlk)
  · exact ⟨rfl, jok_i.mpr (jin_t _)⟩
  · rw [ht]; exact hR.moved hW
theorem jr_creturn {v : Int} (C : jC G X cc own nL (some .char) d nm) (hd : decode cc pc = .ok (.ireturn, 1)) : jWP G X nL pc ls [(0, v)] σ σ (0, wc v) := by
  obtain ⟨p, l, e, R, s, m, args, below, meth, c⟩ := X
  intro H locs la hR hL hs hl ha
  rw [jall_cons] at hs
  have hlk : meth.locks = false := C.2.2.2.2.2.1
  have hb := hR.2.2.2.2.1
  have hb2 := hR.2.2.2.2.2.1
  refine W.mono (fun t => jEnd_of (k := H.size - s.heap.size) (n := jsum H - jsum s.heap) (by omega) (by omega)) (W.zretN (w := Int32.ofInt (wc v)) C.1 C.2.1 C.2.2.2.2.2.2.1 (by rw [wc, jo_i]; rfl) (fun t ht hW => ⟨?_, ?_⟩) hL.1 hd hlk)
  · exact ⟨rfl, jok_i.mpr (jin_t _)⟩
  · rw [ht]; exact hR.moved hW
theorem jr_breturn {v : Int} (C : jC G X cc own nL (some .byte) d nm) (hd : decode cc pc = .ok (.ireturn, 1)) : jWP G X nL pc ls [(0, v)] σ σ (0, w8 v) := by
  obtain ⟨p, l, e, R, s, m, args, below, meth, c⟩ := X
  intro H locs la hR hL hs hl ha
  rw [jall_cons] at hs
  have hlk : meth.locks = false := C.2.2.2.2.2.1
  have hb := hR.2.2.2.2.1
  have hb2 := hR.2.2.2.2.2.1
  refine W.mono (fun t => jEnd_of (k := H.size - s.heap.size) (n := jsum H - jsum s.heap) (by omega) (by omega)) (W.zretN (w := Int32.ofInt (w8 v)) C.1 C.2.1 C.2.2.2.2.2.2.1 (by rw [w8, jo_i]; rfl) (fun t ht hW => ⟨?_, ?_⟩) hL.1 hd hlk)
  · exact ⟨rfl, jok_i.mpr (jin_t _)⟩
  · rw [ht]; exact hR.moved hW
end jZ
