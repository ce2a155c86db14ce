/-! calls of inherited and overriding methods; receivers that may be old ones -/
section jCalls2
variable {G : jG} {l : Launch} {cc : ByteArray} {own nm : String} {nL d pc : Nat} {ret : Option FieldType} {ls : List (Nat × jT)} {st : List jT} {σ σ1 σ' : jS} {r v : jT}
variable {X : jX} {d' maxL index : Nat} {x y : MethodName} {a : Int} {As : List jT} {bytes : ByteArray} {rt : Option FieldType} {stk : List jT}
theorem jclsE {s : State} {H : Heap} {ci : Nat} {rr : vw_C} (hR : jRel G s σ H) (hcl : jCl[ci]? = some rr) (h0 : 0 ≤ a) (hK : jK σ a = ci ∨ jK σ a = 3000 + (ci : Int)) (hci : ci < 1000) : ∃ cell : Cell, H[a.toNat]? = some cell ∧ cell.cls = (gD G).1 ci ∧ cell.vm = .none ∧ s.vm.findClass rr.1 = some ((gD G).1 ci) := by
  have hc := hR.2.2.1 a.toNat
  rw [jcast h0] at hc
  have key : jcell0 G ci (jN σ a) (jF σ a) H a.toNat := by
    rcases hK with hK | hK
    · rw [hK] at hc; exact hc.n (by omega)
    · rw [hK] at hc
      have := hc.r (by omega)
      rwa [show (3000 + (ci : Int) - 3000) = ci by omega] at this
  obtain ⟨r', e1, ⟨cell, q1, q2, q3, -⟩, -⟩ := key.1 (by omega) (by omega)
  rw [Int.toNat_natCast] at q2
  exact ⟨cell, q1, q2, q3, (hR.2.2.2.2.2.2.1.1 ci _ hcl).2.1⟩
/-- how the called method is declared -/
def jdc_ (o : MethodName) : Prop := (Cond.instanceMethod o ∈ lw_all ∧ ∃ b m rt, Cond.code o b m rt ∈ lw_all) ∨ Cond.declares o ∈ lw_tbl
/-- invokevirtual of x, which the receiver's class selects as y -/
theorem jr_callU (ci : Nat) {rr : vw_C} {owner : String} (C : jC G X cc own nL ret d nm) (hXl : X.2.1 = l)
    (hM : (∀ w ∈ (2, a) :: As, jok w) → jMet G l d' y (ws_ y bytes maxL rt) ((2, a) :: As) σ σ1 v) (hd' : d' + 1 ≤ d) (hmL : maxL ≤ 20) (w1 : Cond.methodLink own index x ∈ lw_all) (w2 : Cond.instanceMethod y ∈ lw_all) (w3 : Cond.selects rr.1 x y ∈ lw_all) (w4 : Cond.initialized y.cls ∈ lw_all) (w5 : Cond.code y bytes maxL rt ∈ lw_all)
    (w6 : Cond.sameMethod x.cls owner x.name x.desc ∈ lw_all) (w7 : jdc_ ⟨owner, x.name, x.desc⟩) (ho : owner ≠ "java/lang/invoke/MethodHandle" ∧ owner ≠ "java/lang/invoke/VarHandle")
    (hn : (parseMethodDescriptor x.desc).map (fun d => d.parameters.length) = some As.length) (hcl : jCl[ci]? = some rr) (hci : ci < 1000) (h0 : 0 ≤ a) (hK : jK σ a = ci ∨ jK σ a = 3000 + (ci : Int)) (hd : decode cc pc = .ok (.invokevirtual index, 3)) (hstk : As.reverse ++ (2, a) :: st = stk) (hWt : jwords st ≤ 33)
    (kk : ¬ v.1 = 9 → jWP G X nL (pc + 3) ls (jpush v st) σ1 σ' r) (kx : v.1 = 9 → 0 ≤ v.2 → jXW G X nL pc ls σ1 σ' r v.2) : jWP G X nL pc ls stk σ σ' r := by
  obtain ⟨p, l', e, R, s, m, args, below, meth, c⟩ := X
  cases hXl
  intro H locs la hR hL hs hl ha
  subst hstk
  have hst : ∀ w ∈ st, jok w := fun w hw => hs w (by simp [hw])
  have hM := hM (fun w hw => hs w (by simp at hw ⊢; first | exact hw.elim (fun h => Or.inr (Or.inl h)) (fun h => Or.inl h) | exact Or.inl hw))
  intro T hT X
  have C' := C
  obtain ⟨C1, C2, C3, C4, C5, C6, C7, C8, C9, C10, C11, C12⟩ := C'
  obtain ⟨cellB, hcB, q2, q3, hfB⟩ := jclsE hR hcl h0 hK hci
  have hcls : s.vm.findClass rr.1 = some cellB.cls := by rw [q2]; exact hfB
  have hdecl : va_Decl s ⟨owner, x.name, x.desc⟩ := by
    rcases w7 with ⟨w7, b, m', rt', w8⟩ | w7
    · exact va_Decl.of (C5 _ w7) (C5 _ w8)
    · exact va_Decl.abs (hR.2.2.2.2.2.2.2.2.1 _ w7 rfl)
  obtain ⟨r0, rm, hn0, hrm, hstR, hsigR⟩ := hdecl
  obtain ⟨cn, ck, r1, hcn, hck, hni, hf, hn1⟩ := Cond.sameMethod_found (C5 _ w6)
  cases hn0.symm.trans hn1
  obtain ⟨mk, methM, hnamed, hmethM, -, habM⟩ := Cond.instanceMethod_spec (C5 _ w2)
  obtain ⟨c2, r2, m2, g1, g2, g3, g4, kP, hkP, hkPi⟩ := Cond.selects_spec (C5 _ w3)
  cases hcls.symm.trans g1
  cases hf.symm.trans g2
  cases hnamed.symm.trans g3
  have hselP : selectMethod e.platform s.vm cellB.cls r0 = .method mk := by rw [Launch.admits_selectMethod X.admits]; exact g4
  have hlen : (As.map jv).length = rm.sig.parameters.length := by
    have hsigR : parseMethodDescriptor x.desc = some rm.sig := hsigR
    rw [hsigR] at hn
    simpa using hn.symm
  obtain ⟨vm₁, X₁, hstep₁⟩ := X.invokevirtualUp C1 C4 (C5 _ w1) (C5 _ w6) ho hn0 hrm hstR (a := a.toNat) (cell := cellB) (by rw [hT]; exact hcB)
    (fun z h => by rw [q3] at h; cases h) hselP hmethM habM hkP hkPi (g := F0 m pc la (List.map jv (As.reverse ++ (2, a) :: st))) rfl (argsL := As.map jv) (rest := st.map jv) hlen (by
      show List.map jv (As.reverse ++ (2, a) :: st) = _
      rw [List.map_append, List.map_cons, jv_r h0, List.map_reverse]) (by rw [C2]; exact hd)
  have hhp : (T.setVm vm₁).heap = H := hT
  have X₂ : Stand p l' e R s m args below meth c (T.setVm vm₁) locs ((T.setVm vm₁).heap.size - s.heap.size) (jsum (T.setVm vm₁).heap - jsum s.heap) := by rw [hhp]; exact X₁
  obtain ⟨t, k1, k2⟩ := jgo (la := la) C X₂ hM hd' hmL (.inl ⟨rfl, w5⟩) w4 (X₁.named hnamed) hd (by rw [hhp]; exact hR) (by rw [hhp]; exact hL) ha hl hst hWt kk kx
  refine ⟨t, hstep₁ _ fun acts => ?_, k2⟩
  rw [doInvoke_state]
  rw [List.map_cons, jv_r h0] at k1
  exact k1
end jCalls2
