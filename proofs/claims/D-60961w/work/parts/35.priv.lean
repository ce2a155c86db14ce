/-! private methods of a super class; calls by a law of their own for them -/
section jCalls2
variable {G : jG} {l : Launch} {cc : ByteArray} {own nm : String} {nL d pc : Nat} {ret : Option FieldType} {ls : List (Nat × jT)} {st : List jT} {σ σ1 σ' : jS} {r v : jT}
variable {X : jX} {d' maxL index : Nat} {x y : MethodName} {a : Int} {As : List jT} {bytes : ByteArray} {rt : Option FieldType} {stk : List jT}
theorem jr_callP (ci : Nat) {rr : vw_C} (C : jC G X cc own nL ret d nm) (hXl : X.2.1 = l)
    (hM : (∀ w ∈ (2, a) :: As, jok w) → jMet G l d' y (ws_ y bytes maxL rt) ((2, a) :: As) σ σ1 v) (hd' : d' + 1 ≤ d) (hmL : maxL ≤ 20) (w1 : Cond.methodLink own index y ∈ lw_all) (w2 : Cond.instanceMethod y ∈ lw_all) (w3 : Cond.privateMethod y ∈ lw_tbl) (w4 : Cond.initialized y.cls ∈ lw_all) (w5 : Cond.code y bytes maxL rt ∈ lw_all)
    (w6 : Cond.sameMethod y.cls y.cls y.name y.desc ∈ lw_all) (ho : y.cls ≠ "java/lang/invoke/MethodHandle" ∧ y.cls ≠ "java/lang/invoke/VarHandle")
    (hn : (parseMethodDescriptor y.desc).map (fun d => d.parameters.length) = some As.length) (hcl : jCl[ci]? = some rr) (hci : ci < 1000) (h0 : 0 ≤ a) (hK : jK σ a = ci ∨ jK σ a = 3000 + (ci : Int)) (hd : decode cc pc = .ok (.invokevirtual index, 3)) (hstk : As.reverse ++ (2, a) :: st = stk) (hWt : jwords st ≤ 33)
    (kk : ¬ v.1 = 9 → jWP G X nL (pc + 3) ls (jpush v st) σ1 σ' r) (kx : v.1 = 9 → 0 ≤ v.2 → jXW G X nL pc ls σ1 σ' r v.2) : jWP G X nL pc ls stk σ σ' r := by
  obtain ⟨p, l', e, R, s, m, args, below, meth, c⟩ := X
  cases hXl
  intro H locs la hR hL hs hl ha
  subst hstk
  have hst : ∀ w ∈ st, jok w := fun w hw => hs w (by simp [hw])
  have hM := hM (fun w hw => hs w (by simp at hw ⊢; first | exact hw.elim (fun h => Or.inr (Or.inl h)) (fun h => Or.inl h) | exact Or.inl hw))
  intro T hT X
  have C' := C
  obtain ⟨C1, C2, C3, C4, C5, C6, C7, C8, C9, C10, C11, C12⟩ := C'
  obtain ⟨cellB, hcB, q2, q3, hfB⟩ := jclsE hR hcl h0 hK hci
  have hcls : s.vm.findClass rr.1 = some cellB.cls := by rw [q2]; exact hfB
  have hdecl : va_Decl s ⟨y.cls, y.name, y.desc⟩ := va_Decl.of (C5 _ w2) (C5 _ w5)
  obtain ⟨r0, rm, hn0, hrm, hstR, hsigR⟩ := hdecl
  obtain ⟨cn, ck, r1, hcn, hck, hni, hf, hn1⟩ := Cond.sameMethod_found (C5 _ w6)
  cases hn0.symm.trans hn1
  obtain ⟨mk, methM, hnamed, hmethM, -, habM⟩ := Cond.instanceMethod_spec (C5 _ w2)
  have e0 : r0 = mk := Option.some.inj (hn0.symm.trans hnamed)
  subst e0
  have e1 : cn = r0.cls := Option.some.inj (hcn.symm.trans (findClass_of_methodNamed hnamed))
  subst e1
  have hselP : selectMethod e.platform s.vm cellB.cls r0 = .method r0 := selectMethod_private hmethM (Cond.privateMethod_at (va_Nw.use (A := #[]) rfl (hR.2.2.2.2.2.2.2.2.1 _ w3 rfl)) r0 methM hnamed hmethM)
  have hlen : (As.map jv).length = rm.sig.parameters.length := by
    have hsigR : parseMethodDescriptor y.desc = some rm.sig := hsigR
    rw [hsigR] at hn
    simpa using hn.symm
  obtain ⟨vm₁, X₁, hstep₁⟩ := X.invokevirtualUp C1 C4 (C5 _ w1) (C5 _ w6) ho hn0 hrm hstR (a := a.toNat) (cell := cellB) (by rw [hT]; exact hcB)
    (fun z h => by rw [q3] at h; cases h) hselP hmethM habM hck hni (g := F0 m pc la (List.map jv (As.reverse ++ (2, a) :: st))) rfl (argsL := As.map jv) (rest := st.map jv) hlen (by
      show List.map jv (As.reverse ++ (2, a) :: st) = _
      rw [List.map_append, List.map_cons, jv_r h0, List.map_reverse]) (by rw [C2]; exact hd)
  have hhp : (T.setVm vm₁).heap = H := hT
  have X₂ : Stand p l' e R s m args below meth c (T.setVm vm₁) locs ((T.setVm vm₁).heap.size - s.heap.size) (jsum (T.setVm vm₁).heap - jsum s.heap) := by rw [hhp]; exact X₁
  obtain ⟨t, k1, k2⟩ := jgo (la := la) C X₂ hM hd' hmL (.inl ⟨rfl, w5⟩) w4 (X₁.named hnamed) hd (by rw [hhp]; exact hR) (by rw [hhp]; exact hL) ha hl hst hWt kk kx
  refine ⟨t, hstep₁ _ fun acts => ?_, k2⟩
  rw [doInvoke_state]
  rw [List.map_cons, jv_r h0] at k1
  exact k1
end jCalls2
/-- what is asked for a call of a private method y on a receiver of class ci -/
def jPa (own : String) (ix ci : Nat) (y : MethodName) (bytes : ByteArray) (maxL : Nat) (rt : Option FieldType) (n : Nat) : Prop := ∃ rr : vw_C, jCl[ci]? = some rr ∧ ci < 1000 ∧ maxL ≤ 20 ∧ Cond.methodLink own ix y ∈ lw_all ∧ Cond.instanceMethod y ∈ lw_all ∧ Cond.privateMethod y ∈ lw_tbl ∧ Cond.initialized y.cls ∈ lw_all ∧ Cond.code y bytes maxL rt ∈ lw_all ∧ Cond.sameMethod y.cls y.cls y.name y.desc ∈ lw_all ∧ (y.cls ≠ "java/lang/invoke/MethodHandle" ∧ y.cls ≠ "java/lang/invoke/VarHandle") ∧ (parseMethodDescriptor y.desc).map (fun d => d.parameters.length) = some n
theorem jCallP {G : jG} {l : Launch} {own nm : String} {d : Nat} {ix ci n maxL d' : Nat} {c : Int} {y : MethodName} {bytes : ByteArray} {rt : Option FieldType} {F : List jT → jS → jS → jT → Prop} (hu : jPa own ix ci y bytes maxL rt n) (hM : jM G l d' y (ws_ y bytes maxL rt) F) (hd' : d' + 1 ≤ d) (hc : c = (ci : Int) ∨ c = 3000 + (ci : Int)) : jCall G l own d nm (.invokevirtual ix) n (jKa c F) := by
  intro X cc nL ret pc ls st stk As a σ σ1 σ' r v C hXl hfl hFv hn hd hstk hWt kk kx
  obtain ⟨rr, h1, h2, h3, h4, h5, h6, h7, h8, h9, h10, h11⟩ := hu
  obtain ⟨a', As', e, g0, g1, g2⟩ := hFv
  cases e
  subst hn
  exact jr_callP ci C hXl (fun hok => hM hfl _ σ σ1 v hok g2) hd' h3 h4 h5 h6 h7 h8 h9 h10 h11 h1 h2 g0 (hc.imp (fun e => g1.trans e) (fun e => g1.trans e)) hd hstk hWt kk kx
/-- a method of the receiver's own class (selects itself), on a receiver that may be an old one -/
def jVa (own : String) (ix ci : Nat) (y : MethodName) (bytes : ByteArray) (maxL : Nat) (rt : Option FieldType) (n : Nat) : Prop := ∃ rr : vw_C, jCl[ci]? = some rr ∧ ci < 1000 ∧ maxL ≤ 20 ∧ jln_ own ix y ∧ Cond.instanceMethod y ∈ lw_all ∧ jsl_ rr.1 y ∧ Cond.initialized y.cls ∈ lw_all ∧ Cond.code y bytes maxL rt ∈ lw_all ∧ (y.cls ≠ "java/lang/invoke/MethodHandle" ∧ y.cls ≠ "java/lang/invoke/VarHandle") ∧ (parseMethodDescriptor y.desc).map (fun d => d.parameters.length) = some n
section jCallsE
variable {G : jG} {l : Launch} {cc : ByteArray} {own nm : String} {nL d pc : Nat} {ret : Option FieldType} {ls : List (Nat × jT)} {st : List jT} {σ σ1 σ' : jS} {r v : jT}
variable {X : jX} {d' maxL index : Nat} {y : MethodName} {a : Int} {As : List jT} {bytes : ByteArray} {rt : Option FieldType} {stk : List jT}
theorem jr_callVE (ci : Nat) {rr : vw_C} (C : jC G X cc own nL ret d nm) (hXl : X.2.1 = l)
    (hM : (∀ w ∈ (2, a) :: As, jok w) → jMet G l d' y (ws_ y bytes maxL rt) ((2, a) :: As) σ σ1 v) (hd' : d' + 1 ≤ d) (hmL : maxL ≤ 20) (w1 : jln_ own index y) (w2 : Cond.instanceMethod y ∈ lw_all) (w3 : jsl_ rr.1 y) (w4 : Cond.initialized y.cls ∈ lw_all) (w5 : Cond.code y bytes maxL rt ∈ lw_all)
    (hy : y.cls ≠ "java/lang/invoke/MethodHandle" ∧ y.cls ≠ "java/lang/invoke/VarHandle") (hn : (parseMethodDescriptor y.desc).map (fun d => d.parameters.length) = some As.length) (hcl : jCl[ci]? = some rr) (hci : ci < 1000) (h0 : 0 ≤ a) (hK : jK σ a = ci ∨ jK σ a = 3000 + (ci : Int)) (hd : decode cc pc = .ok (.invokevirtual index, 3)) (hstk : As.reverse ++ (2, a) :: st = stk) (hWt : jwords st ≤ 33)
    (kk : ¬ v.1 = 9 → jWP G X nL (pc + 3) ls (jpush v st) σ1 σ' r) (kx : v.1 = 9 → 0 ≤ v.2 → jXW G X nL pc ls σ1 σ' r v.2) : jWP G X nL pc ls stk σ σ' r := by
  obtain ⟨p, l', e, R, s, m, args, below, meth, c⟩ := X
  cases hXl
  intro H locs la hR hL hs hl ha
  subst hstk
  have hst : ∀ w ∈ st, jok w := fun w hw => hs w (by simp [hw])
  have hM := hM (fun w hw => hs w (by simp at hw ⊢; first | exact hw.elim (fun h => Or.inr (Or.inl h)) (fun h => Or.inl h) | exact Or.inl hw))
  intro T hT X
  have C' := C
  obtain ⟨C1, C2, C3, C4, C5, C6, C7, C8, C9, C10, C11, C12⟩ := C'
  obtain ⟨cellB, hcB, q2, q3, hfB⟩ := jclsE hR hcl h0 hK hci
  obtain ⟨mk, methM, hnamed, hmethM, hstM, habM⟩ := Cond.instanceMethod_spec (C5 _ w2)
  obtain ⟨methM', cM, hmethM', -, -, -, -, -, -, hsigM⟩ := Cond.code_spec hnamed (C5 _ w5)
  cases hmethM.symm.trans hmethM'
  have hcls : s.vm.findClass rr.1 = some cellB.cls := by rw [q2]; exact hfB
  have hse : ∃ kP, s.vm.classes[mk.cls]? = some kP ∧ kP.isInterface = false ∧ selectMethod e.platform s.vm cellB.cls mk = .method mk := by
    rcases w3 with w3 | ⟨w3, nn, w6⟩
    · obtain ⟨c2, r2, m2, s1, s2, s3, s4, kP, hkP, hkPi⟩ := Cond.selects_spec (C5 _ w3)
      cases hcls.symm.trans s1
      cases (State.methodFound?_of_named hnamed hy).symm.trans s2
      cases hnamed.symm.trans s3
      exact ⟨kP, hkP, hkPi, by rw [Launch.admits_selectMethod X.admits]; exact s4⟩
    · obtain ⟨c2, kP, s1, s2, -, s4, -⟩ := Cond.instantiable_spec (C5 _ w6)
      cases (findClass_of_methodNamed hnamed).symm.trans s1
      rw [Bool.or_eq_false_iff] at s4
      exact ⟨kP, s2, s4.1, selectMethod_private hmethM (Cond.privateMethod_at (va_Nw.use (A := #[]) rfl (hR.2.2.2.2.2.2.2.2.1 _ w3 rfl)) mk methM hnamed hmethM)⟩
  obtain ⟨kP, hkP, hkPi, hselP⟩ := hse
  have hlen : (As.map jv).length = methM.sig.parameters.length := by
    rw [hsigM] at hn
    simpa using hn.symm
  have hgo : ∃ vm₁, Stand p l' e R s m args below meth c (T.setVm vm₁) locs (H.size - s.heap.size) (jsum H - jsum s.heap) ∧ ∀ target, (∀ acts, Steps p.tables e below (doInvoke e ((T.setVm vm₁).setTop { (F0 m pc la (List.map jv (As.reverse ++ (2, a) :: st))) with stack := st.map jv }) acts mk (.ref a.toNat :: As.map jv).toArray).1 target) → Steps p.tables e below (T.setTop (F0 m pc la (List.map jv (As.reverse ++ (2, a) :: st)))) target := by
    rcases w1 with w1 | ⟨host, w1⟩
    · exact X.invokevirtual C1 C4 (C5 _ w1) hnamed hmethM hstM hkP hkPi hy (a := a.toNat) (cell := cellB) (by rw [hT]; exact hcB)
        (fun z h => by rw [q3] at h; cases h) hselP hmethM habM hkP hkPi (g := F0 m pc la (List.map jv (As.reverse ++ (2, a) :: st))) rfl (argsL := As.map jv) (rest := st.map jv) hlen (by
          show List.map jv (As.reverse ++ (2, a) :: st) = _
          rw [List.map_append, List.map_cons, jv_r h0, List.map_reverse]) (by rw [C2]; exact hd)
    · exact X.invokevirtualNest C1 C4 (va_Nw.use rfl (hR.2.2.2.2.2.2.2.2.1 _ w1 rfl)) hnamed hmethM hstM hkP hkPi hy (a := a.toNat) (cell := cellB) (by rw [hT]; exact hcB)
        (fun z h => by rw [q3] at h; cases h) hselP hmethM habM hkP hkPi (g := F0 m pc la (List.map jv (As.reverse ++ (2, a) :: st))) rfl (argsL := As.map jv) (rest := st.map jv) hlen (by
          show List.map jv (As.reverse ++ (2, a) :: st) = _
          rw [List.map_append, List.map_cons, jv_r h0, List.map_reverse]) (by rw [C2]; exact hd)
  obtain ⟨vm₁, X₁, hstep₁⟩ := hgo
  have hhp : (T.setVm vm₁).heap = H := hT
  have X₂ : Stand p l' e R s m args below meth c (T.setVm vm₁) locs ((T.setVm vm₁).heap.size - s.heap.size) (jsum (T.setVm vm₁).heap - jsum s.heap) := by rw [hhp]; exact X₁
  obtain ⟨t, k1, k2⟩ := jgo (la := la) C X₂ hM hd' hmL (.inl ⟨rfl, w5⟩) w4 (X₁.named hnamed) hd (by rw [hhp]; exact hR) (by rw [hhp]; exact hL) ha hl hst hWt kk kx
  refine ⟨t, hstep₁ _ fun acts => ?_, k2⟩
  rw [doInvoke_state]
  rw [List.map_cons, jv_r h0] at k1
  exact k1
end jCallsE
theorem jCallV {G : jG} {l : Launch} {own nm : String} {d : Nat} {ix ci n maxL d' : Nat} {c : Int} {y : MethodName} {bytes : ByteArray} {rt : Option FieldType} {F : List jT → jS → jS → jT → Prop} (hu : jVa own ix ci y bytes maxL rt n) (hM : jM G l d' y (ws_ y bytes maxL rt) F) (hd' : d' + 1 ≤ d) (hc : c = (ci : Int) ∨ c = 3000 + (ci : Int)) : jCall G l own d nm (.invokevirtual ix) n (jKa c F) := by
  intro X cc nL ret pc ls st stk As a σ σ1 σ' r v C hXl hfl hFv hn hd hstk hWt kk kx
  obtain ⟨rr, h1, h2, h3, h4, h5, h6, h7, h8, h9, h10⟩ := hu
  obtain ⟨a', As', e, g0, g1, g2⟩ := hFv
  cases e
  subst hn
  exact jr_callVE ci C hXl (fun hok => hM hfl _ σ σ1 v hok g2) hd' h3 h4 h5 h6 h7 h8 h9 h10 h1 h2 g0 (hc.imp (fun e => g1.trans e) (fun e => g1.trans e)) hd hstk hWt kk kx
