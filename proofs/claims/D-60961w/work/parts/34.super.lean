/-! super's methods; a raw receiver of a typed method -/
noncomputable section
section jSuper
variable {G : jG} {l : Launch} {cc : ByteArray} {own nm : String} {nL d pc : Nat} {ret : Option FieldType} {ls : List (Nat × jT)} {st : List jT} {σ σ1 σ' : jS} {r v : jT}
variable {X : jX} {d' maxL index : Nat} {y : MethodName} {a : Int} {As : List jT} {bytes : ByteArray} {rt : Option FieldType} {stk : List jT}
theorem jr_callQ (ci : Nat) {rr : vw_C} (C : jC G X cc own nL ret d nm) (hXl : X.2.1 = l)
    (hM : (∀ w ∈ (2, a) :: As, jok w) → jMet G l d' y (ws_ y bytes maxL rt) ((2, a) :: As) σ σ1 v) (hd' : d' + 1 ≤ d) (hmL : maxL ≤ 20) (w1 : Cond.methodLink own index y ∈ lw_all) (w2 : Cond.instanceMethod y ∈ lw_all) (w3 : Cond.superclass own y.cls ∈ lw_all) (w4 : Cond.initialized y.cls ∈ lw_all) (w5 : Cond.code y bytes maxL rt ∈ lw_all)
    (w6 : Cond.sameMethod y.cls y.cls y.name y.desc ∈ lw_all) (hno : y.name ≠ "<init>")
    (hn : (parseMethodDescriptor y.desc).map (fun d => d.parameters.length) = some As.length) (hcl : jCl[ci]? = some rr) (hci : ci < 1000) (h0 : 0 ≤ a) (hK : jK σ a = ci ∨ jK σ a = 3000 + (ci : Int)) (hd : decode cc pc = .ok (.invokespecial index, 3)) (hstk : As.reverse ++ (2, a) :: st = stk) (hWt : jwords st ≤ 33)
    (kk : ¬ v.1 = 9 → jWP G X nL (pc + 3) ls (jpush v st) σ1 σ' r) (kx : v.1 = 9 → 0 ≤ v.2 → jXW G X nL pc ls σ1 σ' r v.2) : jWP G X nL pc ls stk σ σ' r := by
  obtain ⟨p, l', e, R, s, m, args, below, meth, c⟩ := X
  cases hXl
  intro H locs la hR hL hs hl ha
  subst hstk
  have hst : ∀ w ∈ st, jok w := fun w hw => hs w (by simp [hw])
  have hM := hM (fun w hw => hs w (by simp at hw ⊢; first | exact hw.elim (fun h => Or.inr (Or.inl h)) (fun h => Or.inl h) | exact Or.inl hw))
  intro T hT X
  have C' := C
  obtain ⟨C1, C2, C3, C4, C5, C6, C7, C8, C9, C10, C11, C12⟩ := C'
  obtain ⟨cellB, hcB, q2, q3, hfB⟩ := jclsE hR hcl h0 hK hci
  obtain ⟨hS, hfc, kC, hkC, hkind⟩ := hR.2.2.2.2.2.2.1.1 ci _ hcl
  obtain ⟨mk, methM, hnamed, hmethM, hstM, habM⟩ := Cond.instanceMethod_spec (C5 _ w2)
  obtain ⟨methM', cM, hmethM', -, -, -, -, -, -, hsigM⟩ := Cond.code_spec hnamed (C5 _ w5)
  cases hmethM.symm.trans hmethM'
  obtain ⟨ps, dk, kp, hps, hdk, hkp, hsuper, -, -, hnid⟩ := Cond.superclass_spec C4 (C5 _ w3)
  have hpm : ps = mk.cls := Option.some.inj (hps.symm.trans (findClass_of_methodNamed hnamed))
  have hsub : s.vm.isSubclass ps mk.cls = true := by rw [hpm]; simp [Vm.isSubclass, Vm.isSubclassAux]
  have hlen : (As.map jv).length = methM.sig.parameters.length := by
    rw [hsigM] at hn
    simpa using hn.symm
  obtain ⟨vm₁, X₁, hstep₁⟩ := X.invokespecialUp C1 C4 (C5 _ w1) (C5 _ w6) (r0 := mk) (r := methM) hnamed hmethM hstM habM hno hdk hnid hps hsuper hsub (a := a.toNat) (cell := cellB) (by rw [hT]; exact hcB)
    (fun z h => by rw [q3] at h; cases h) (kcell := kC) (by rw [q2]; exact hkC) (g := F0 m pc la (List.map jv (As.reverse ++ (2, a) :: st))) rfl (argsL := As.map jv) (rest := st.map jv) hlen (by
      show List.map jv (As.reverse ++ (2, a) :: st) = _
      rw [List.map_append, List.map_cons, jv_r h0, List.map_reverse]) (by rw [C2]; exact hd)
  have hhp : (T.setVm vm₁).heap = H := hT
  have X₂ : Stand p l' e R s m args below meth c (T.setVm vm₁) locs ((T.setVm vm₁).heap.size - s.heap.size) (jsum (T.setVm vm₁).heap - jsum s.heap) := by rw [hhp]; exact X₁
  obtain ⟨t, k1, k2⟩ := jgo (la := la) C X₂ hM hd' hmL (.inl ⟨rfl, w5⟩) w4 (X₁.named hnamed) hd (by rw [hhp]; exact hR) (by rw [hhp]; exact hL) ha hl hst hWt kk kx
  refine ⟨t, hstep₁ _ ?_, k2⟩
  rw [doInvoke_state]
  rw [List.map_cons, jv_r h0] at k1
  exact k1
end jSuper
/-- what is asked for a call of super's y on a receiver of class ci -/
def jQa (own : String) (ix ci : Nat) (y : MethodName) (bytes : ByteArray) (maxL : Nat) (rt : Option FieldType) (n : Nat) : Prop := ∃ rr : vw_C, jCl[ci]? = some rr ∧ ci < 1000 ∧ maxL ≤ 20 ∧ Cond.methodLink own ix y ∈ lw_all ∧ Cond.instanceMethod y ∈ lw_all ∧ Cond.superclass own y.cls ∈ lw_all ∧ Cond.initialized y.cls ∈ lw_all ∧ Cond.code y bytes maxL rt ∈ lw_all ∧ Cond.sameMethod y.cls y.cls y.name y.desc ∈ lw_all ∧ y.name ≠ "<init>" ∧ (parseMethodDescriptor y.desc).map (fun d => d.parameters.length) = some n
variable {G : jG} {l : Launch} {own nm : String} {d : Nat}
theorem jCallQ {ix ci n maxL d' : Nat} {c : Int} {y : MethodName} {bytes : ByteArray} {rt : Option FieldType} {F : List jT → jS → jS → jT → Prop} (hu : jQa own ix ci y bytes maxL rt n) (hM : jM G l d' y (ws_ y bytes maxL rt) F) (hd' : d' + 1 ≤ d) (hc : c = (ci : Int) ∨ c = 3000 + (ci : Int)) : jCall G l own d nm (.invokespecial ix) n (jKa c F) := by
  intro X cc nL ret pc ls st stk As a σ σ1 σ' r v C hXl hfl hFv hn hd hstk hWt kk kx
  obtain ⟨rr, h1, h2, h3, h4, h5, h6, h7, h8, h9, h10, h11⟩ := hu
  obtain ⟨a', As', e, g0, g1, g2⟩ := hFv
  cases e
  subst hn
  exact jr_callQ ci C hXl (fun hok => hM hfl _ σ σ1 v hok g2) hd' h3 h4 h5 h6 h7 h8 h9 h10 h11 h1 h2 g0 (hc.imp (fun e => g1.trans e) (fun e => g1.trans e)) hd hstk hWt kk kx
theorem jM.mono {d' : Nat} {y : MethodName} {ws : List Cond} {F F' : List jT → jS → jS → jT → Prop} (h : jM G l d' y ws F) (g : ∀ As σ σ' r, F' As σ σ' r → F As σ σ' r) : jM G l d' y ws F' := fun hf As σ σ' r hok hF => h hf As σ σ' r hok (g _ _ _ _ hF)
/-- the receiver's type is asked first -/
def jca {α : Type} (t : Nat) (C : List Int → jS → Option α) (vs : List Int) (σ : jS) : Option α := match vs with
  | a :: as => jct σ t a (C (a :: as) σ)
  | [] => none
theorem jca_b {α : Type} {t : Nat} {C : List Int → jS → Option α} {a : Int} {as : List Int} {σ : jS} {q : α} (h : jca t C (a :: as) σ = some q) : jTt σ t a ∧ C (a :: as) σ = some q := jct_b h
variable {tt t : Nat} {tags : List Nat}
theorem jca_k {a : Int} {as : List Int} {σ : jS} (h : ∀ v ∈ jzs (2 :: tags) (a :: as), jtk true σ v) (ht : jTt σ tt a) : ∀ v ∈ jzs (tt :: tags) (a :: as), jtk true σ v := by
  intro v hv
  rcases List.mem_cons.mp hv with rfl | hv
  · exact fun _ => ⟨rfl, ht⟩
  · exact h v (List.mem_cons_of_mem _ hv)
theorem jca_g {a : Int} {as : List Int} (hr : jrt tt = true) : jgs (jzs (2 :: tags) (a :: as)) = jgs (jzs (tt :: tags) (a :: as)) := by
  show jgm (2, a) :: _ = jgm (tt, a) :: _
  rw [jgm_rt hr]; rfl
theorem jca_R {C : List Int → jS → Option Int} (hr : jrt tt = true) {As : List jT} {σ σ' : jS} {r : jT} (h : jFR true (2 :: tags) t (jca tt C) As σ σ' r) : jFR true (tt :: tags) t C As σ σ' r := by
  obtain ⟨vs, z, h1, h2, h3, h4, h5, h6⟩ := h
  cases vs with
  | nil => cases h4
  | cons a as =>
    obtain ⟨g1, g2⟩ := jca_b h4
    exact ⟨_, z, h1, by rw [h2, jca_g hr], jca_k h3 g1, g2, h5, h6⟩
theorem jca_W {C : List Int → jS → Option (jS × Int)} (hr : jrt tt = true) {As : List jT} {σ σ' : jS} {r : jT} (h : jFW true (2 :: tags) t (jca tt C) As σ σ' r) : jFW true (tt :: tags) t C As σ σ' r := by
  obtain ⟨vs, z, h1, h2, h3, h4, h5⟩ := h
  cases vs with
  | nil => cases h4
  | cons a as =>
    obtain ⟨g1, g2⟩ := jca_b h4
    exact ⟨_, z, h1, by rw [h2, jca_g hr], jca_k h3 g1, g2, h5⟩
theorem jca_X {C : List Int → jS → Option (jS × Bool × Int)} (hr : jrt tt = true) {As : List jT} {σ σ' : jS} {r : jT} (h : jFX true (2 :: tags) t (jca tt C) As σ σ' r) : jFX true (tt :: tags) t C As σ σ' r := by
  obtain ⟨vs, b, z, h1, h2, h3, h4, h5⟩ := h
  cases vs with
  | nil => cases h4
  | cons a as =>
    obtain ⟨g1, g2⟩ := jca_b h4
    exact ⟨_, b, z, h1, by rw [h2, jca_g hr], jca_k h3 g1, g2, h5⟩
theorem jca_x {α : Type} {C : List Int → jS → Option (jS × α)} (h : jXt true (tt :: tags) C) : jXt true (2 :: tags) (jca tt C) := by
  intro hty vs σ q hl hk hq
  cases vs with
  | nil => cases hq
  | cons a as =>
    obtain ⟨g1, g2⟩ := jca_b hq
    exact h hty _ σ q hl (jca_k hk g1) g2
/-- a read-only method as one that may write -/
def jrw (C : List Int → jS → Option Int) (vs : List Int) (σ : jS) : Option (jS × Int) := (C vs σ).bind fun v => some (σ, v)
theorem jrw_W {ty : Bool} {C : List Int → jS → Option Int} {As : List jT} {σ σ' : jS} {r : jT} (h : jFW ty tags t (jrw C) As σ σ' r) : jFR ty tags t C As σ σ' r := by
  obtain ⟨vs, z, h1, h2, h3, h4, h5⟩ := h
  obtain ⟨v, g1, g2⟩ := jb_b h4
  cases g2
  exact ⟨vs, _, h1, h2, h3, g1, h5, rfl⟩
theorem jrw_x {ty : Bool} {C : List Int → jS → Option Int} : jXt ty tags (jrw C) := by
  intro _ vs σ q _ _ h
  obtain ⟨v, g1, g2⟩ := jb_b h
  cases g2
  exact jEx.rfl
end
