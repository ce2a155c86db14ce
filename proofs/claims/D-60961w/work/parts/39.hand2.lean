/-! printed by mk39.py: methods with handlers, and calls of them -/
section jHand2
theorem jM.ofWH {hh : List (Nat × Nat × Nat × Nat)} {G : jG} {l : Launch} {d nL : Nat} {y : MethodName} {cc : ByteArray} {ret : Option FieldType} {F : List jT → jS → jS → jT → Prop} (hy : plainName y.cls = true)
    (hw : ∀ (As : List jT) (σ σ' : jS) (r : jT), F As σ σ' r → jwords As ≤ nL)
    (body : ∀ (X : jX) (As : List jT) (σ σ' : jS) (r : jT), (∀ v ∈ As, jok v) → F As σ σ' r → X.2.1 = l → jC G X cc y.cls nL ret d y.name → (X.2.2.2.2.2.2.2.2.2.exceptionTable.toList = tableOf hh ∧ jFl X.2.1) → jWP G X nL 0 (jargs 0 As) [] σ σ' r) : jM G l d y (wsW_ y cc nL ret hh) F := by
  intro hfl As σ σ' r hAs hF
  refine MetFree.of_bodyS (code := cc) (maxLocals := nL) (ret := ret) hy ?_ ?_
  · intro args s m h hn
    obtain ⟨m', meth, c, h0, h1, h2, h3, h4, -, h5, h6, -⟩ := Cond.codeWith_spec (atoms_spec (ws := wsW_ y cc nL ret hh) h _ List.mem_cons_self)
    cases hn.symm.trans h0
    exact ⟨meth, c, h1, h2, h3, h4, h5, h6⟩
  · intro p e s m args below meth c s₁ B hml hP _
    obtain ⟨rfl, hR⟩ := hP
    have hts := atoms_spec (ws := wsW_ y cc nL ret hh) B.pre
    have hown : s.vm.findClass y.cls = some m.cls := findClass_of_methodNamed B.named
    have hnm : meth.name = y.name := (name_of_methodNamed B.named B.method).1
    have XX := Stand.of_body B
    have hh0 : s₁.heap = s.heap := by rw [B.state]; rfl
    have hE : c.exceptionTable.toList = tableOf hh := by
      obtain ⟨m', meth', c', h0, h1, h2, -, -, h9, -⟩ := Cond.codeWith_spec (hts _ List.mem_cons_self)
      cases B.named.symm.trans h0
      cases B.method.symm.trans h1
      cases XX.code.symm.trans h2
      rw [← h9, table_eq]
    have hC : jC G (p, l, e, (headSpec (wsW_ y cc nL ret hh) (jRm G d σ)).room, s, m, (As.map jv).toArray, below, meth, c) cc y.cls nL ret d y.name :=
      ⟨B.exec, B.bytes, hml, hown, fun w h => hts w (List.mem_cons_of_mem _ h), B.notSynchronized, B.returns, (by have hrm := jRm_eq (d := d) hR; show _ ≤ (jRm G d σ).frames ∧ (jRm G d σ).cells = _ ∧ (jRm G d σ).slots = _ ∧ _ ≤ (jRm G d σ).locals; rw [hrm]; exact ⟨Nat.le_refl _, rfl, rfl, Nat.le_refl _⟩), hR.2.2.2.2.1.1, hR.2.2.2.2.2.1.1, ⟨hR.2.2.2.1, σ, hR⟩, hnm⟩
    have hW := body _ As σ σ' r hAs hF rfl hC ⟨hE, hfl⟩
    have hl := lv_entry (As.map jv) (n := nL) (by rw [jwords_sl As hAs]; exact hw As σ σ' r hF)
    have hk := hW s.heap [] _ hR ⟨fun _ h => absurd h List.not_mem_nil, Nat.le_refl _, Nat.le_refl _⟩ (fun _ h => absurd h List.not_mem_nil) (jargs_ok As 0 hAs) (by rw [jargs_map As 0 hAs]; exact hl)
    rw [Nat.sub_self, Nat.sub_self] at hk
    have hk' := hk
    rw [List.map_nil, ← lg_entry_eq] at hk'
    obtain ⟨t, a1, o, b1, b2, b3, b4⟩ := hk' s₁ hh0 XX
    exact ⟨t, o, a1, b1, b2, b3, b4⟩
theorem jmethWH {hh : List (Nat × Nat × Nat × Nat)} {G : jG} {l : Launch} {d t : Nat} {y : MethodName} {cc : ByteArray} {ret : Option FieldType} {m : jMd} {tags : List Nat} {C : List Int → jS → Option (jS × Int)} (hy : plainName y.cls = true) (hw : jtw tags ≤ m.1) (hT : ∀ q ∈ m.2.2.2.2.1, jRok cc q) (hrt : jrtOk m.2.2.2.1 ret) (hE : ∀ q ∈ m.2.2.2.2.2.1, jKOk G l y.cls d y.name m.2.1 m.2.2.1 m.2.2.2.2.2.2.2 q) (hXs : ∀ q ∈ m.2.2.2.2.2.2.1, jXok y.cls d q) (hhs : jHL y.cls m.2.2.2.2.2.2.2 hh) (hwr : m.2.1 = true)
    (body : ∀ (J : jJ) (σ0 σ' : jS) (r : jT) (k : jS × Int → Prop), jClo J m σ0 σ' r → jLv J m.2.1 σ0 σ' r (jmkW t) [] k → ∀ vs σ x, C vs σ = some x → k x → J 0 (jzl (jsig 0 tags) vs) [] σ) : jM G l d y (wsW_ y cc m.1 ret hh) (jFW m.2.2.1 tags t C) ∧ jXt m.2.2.1 tags C := by
  have hlv : ∀ (J : jJ) (σ0 σ' : jS) (v : Int), jLv J m.2.1 σ0 σ' (t, v) (jmkW t) [] (fun x => x = (σ', v)) := fun J σ0 σ' v => by
    refine ⟨fun σ1 w x _ hx hk => ?_, fun q hq => by cases hq⟩
    unfold jmkW at hx; split at hx
    · rename_i g; have := jbeq g; cases hx; cases hk; exact ⟨rfl, by rw [← this]⟩
    · cases hx
  refine ⟨jM.ofWH hy ?_ ?_, fun hty vs σ q hlen htk h => ?_⟩
  · rintro As σ σ' r ⟨vs, v, h1, rfl, -, -, -⟩
    rw [jtw_words _ _ h1]; exact hw
  · rintro X As σ σ' r - ⟨vs, v, h1, rfl, h2, h3, rfl⟩ hXl hC hH
    rw [jargs_sig _ _ _ h1]
    exact body (jJ1 m.2.2.1 G X m.1 σ' (t, v)) σ σ' (t, v) (fun x => x = (σ', v)) (jClo_1 ⟨hC, ⟨hH.2, jHk_of hC hH.1 hhs⟩, hXl, hT, hrt, hE, hXs⟩) (hlv _ _ _ _) vs σ (σ', v) h3 rfl (jzl_mem h2) (fun v hv => by cases hv)
  · obtain ⟨σ', v⟩ := q
    refine body (jJ2 σ') σ σ' (t, v) (fun x => x = (σ', v)) (jClo_2 hty fun q hq => (hE q hq).2) (hlv _ _ _ _) vs σ (σ', v) h rfl (jzl_mem ?_) (fun v hv => by cases hv)
    rw [hty] at htk; exact htk
theorem jmethXH {hh : List (Nat × Nat × Nat × Nat)} {G : jG} {l : Launch} {d t : Nat} {y : MethodName} {cc : ByteArray} {ret : Option FieldType} {m : jMd} {tags : List Nat} {C : List Int → jS → Option (jS × Bool × Int)} (hy : plainName y.cls = true) (hw : jtw tags ≤ m.1) (hT : ∀ q ∈ m.2.2.2.2.1, jRok cc q) (hrt : jrtOk m.2.2.2.1 ret) (hE : ∀ q ∈ m.2.2.2.2.2.1, jKOk G l y.cls d y.name m.2.1 m.2.2.1 m.2.2.2.2.2.2.2 q) (hXs : ∀ q ∈ m.2.2.2.2.2.2.1, jXok y.cls d q) (hhs : jHL y.cls m.2.2.2.2.2.2.2 hh) (hwr : m.2.1 = true)
    (body : ∀ (J : jJ) (σ0 σ' : jS) (r : jT) (k : jS × Bool × Int → Prop), jClo J m σ0 σ' r → jLv J m.2.1 σ0 σ' r (jmkX t) [] k → ∀ vs σ x, C vs σ = some x → k x → J 0 (jzl (jsig 0 tags) vs) [] σ) : jM G l d y (wsW_ y cc m.1 ret hh) (jFX m.2.2.1 tags t C) ∧ jXt m.2.2.1 tags C := by
  have hlv : ∀ (J : jJ) (σ0 σ' : jS) (b : Bool) (v : Int), jLv J m.2.1 σ0 σ' (jrx t b v) (jmkX t) [] (fun x => x = (σ', b, v)) := fun J σ0 σ' b v => by
    refine ⟨fun σ1 w x _ hx hk => ?_, fun q hq => by cases hq⟩
    unfold jmkX at hx; split at hx
    · rename_i g; have := jbeq g; cases hx; cases hk; exact ⟨rfl, by unfold jrx; rw [if_neg (by decide), ← this]⟩
    · split at hx
      · rename_i g; have := jbeq g; cases hx; cases hk; exact ⟨rfl, by unfold jrx; rw [if_pos rfl, ← this]⟩
      · cases hx
  refine ⟨jM.ofWH hy ?_ ?_, fun hty vs σ q hlen htk h => ?_⟩
  · rintro As σ σ' r ⟨vs, b, v, h1, rfl, -, -, -⟩
    rw [jtw_words _ _ h1]; exact hw
  · rintro X As σ σ' r - ⟨vs, b, v, h1, rfl, h2, h3, rfl⟩ hXl hC hH
    rw [jargs_sig _ _ _ h1]
    exact body (jJ1 m.2.2.1 G X m.1 σ' (jrx t b v)) σ σ' (jrx t b v) (fun x => x = (σ', b, v)) (jClo_1 ⟨hC, ⟨hH.2, jHk_of hC hH.1 hhs⟩, hXl, hT, hrt, hE, hXs⟩) (hlv _ _ _ _ _) vs σ (σ', b, v) h3 rfl (jzl_mem h2) (fun v hv => by cases hv)
  · obtain ⟨σ', b, v⟩ := q
    refine body (jJ2 σ') σ σ' (jrx t b v) (fun x => x = (σ', b, v)) (jClo_2 hty fun q hq => (hE q hq).2) (hlv _ _ _ _ _) vs σ (σ', b, v) h rfl (jzl_mem ?_) (fun v hv => by cases hv)
    rw [hty] at htk; exact htk
section jShalH
variable {G : jG} {X : jX} {l : Launch} {cc : ByteArray} {own nm : String} {nL d pc : Nat} {ret : Option FieldType} {ls : List (Nat × jT)} {st : List jT} {σ σ1 σ' : jS} {r : jT}
def jcvH (hh : List (Nat × Nat × Nat × Nat)) (own : String) (index ci : Nat) (y : MethodName) (bytes : ByteArray) (maxL : Nat) (rt : Option FieldType) (n : Nat) : Prop := ∃ rr : vw_C, jCl[ci]? = some rr ∧ ci < 1000 ∧ maxL ≤ 20 ∧ jln_ own index y ∧ Cond.instanceMethod y ∈ lw_all ∧ jsl_ rr.1 y ∧ Cond.initialized y.cls ∈ lw_all ∧ Cond.codeWith y bytes maxL rt hh ∈ lw_all ∧ (y.cls ≠ "java/lang/invoke/MethodHandle" ∧ y.cls ≠ "java/lang/invoke/VarHandle") ∧ (parseMethodDescriptor y.desc).map (fun d => d.parameters.length) = some n
def jcsH (hh : List (Nat × Nat × Nat × Nat)) (own : String) (index : Nat) (y : MethodName) (bytes : ByteArray) (maxL : Nat) (rt : Option FieldType) (n : Nat) : Prop := maxL ≤ 20 ∧ jln_ own index y ∧ Cond.static y ∈ lw_all ∧ Cond.initialized y.cls ∈ lw_all ∧ Cond.codeWith y bytes maxL rt hh ∈ lw_all ∧ (y.cls ≠ "java/lang/invoke/MethodHandle" ∧ y.cls ≠ "java/lang/invoke/VarHandle") ∧ (parseMethodDescriptor y.desc).map (fun d => d.parameters.length) = some n
variable {hh : List (Nat × Nat × Nat × Nat)} {d' maxL index n : Nat} {y : MethodName} {a : Int} {bytes : ByteArray} {rt : Option FieldType} {stk : List jT} {v : jT} {F : List jT → jS → jS → jT → Prop}
theorem js_callVH {ci : Nat} (As : List jT) (C : jC G X cc own nL ret d nm) (hXl : X.2.1 = l) (hc : jcvH hh own index ci y bytes maxL rt n) (hfl : jFl l) (hM : jM G l d' y (wsW_ y bytes maxL rt hh) F) (hd' : d' + 1 ≤ d) (hF : F ((2, a) :: As) σ σ1 v) (h9 : ¬ v.1 = 9) (hn : n = As.length) (h0 : 0 ≤ a) (hK : jK σ a = ci) (hd : decode cc pc = .ok (.invokevirtual index, 3)) (hstk : As.reverse ++ (2, a) :: st = stk) (hWt : jwords st ≤ 33)
    (kk : jWP G X nL (pc + 3) ls (jpush v st) σ1 σ' r) : jWP G X nL pc ls stk σ σ' r := by
  obtain ⟨rr, h1, h2, h3, h4, h5, h6, h7, h8, h10, h11⟩ := hc
  subst hn
  exact jr_callV ci C hXl (fun hok => hM hfl _ σ σ1 v hok hF) hd' h3 h4 h5 h6 h7 (.inr ⟨hh, rfl, h8⟩) h10 h11 h1 h2 h0 hK hd hstk hWt (fun _ => kk) (fun h _ => absurd h h9)
theorem js_callSH (As : List jT) (C : jC G X cc own nL ret d nm) (hXl : X.2.1 = l) (hc : jcsH hh own index y bytes maxL rt n) (hfl : jFl l) (hM : jM G l d' y (wsW_ y bytes maxL rt hh) F) (hd' : d' + 1 ≤ d) (hF : F As σ σ1 v) (h9 : ¬ v.1 = 9) (hn : n = As.length) (hd : decode cc pc = .ok (.invokestatic index, 3)) (hstk : As.reverse ++ st = stk) (hWt : jwords st ≤ 33)
    (kk : jWP G X nL (pc + 3) ls (jpush v st) σ1 σ' r) : jWP G X nL pc ls stk σ σ' r := by
  obtain ⟨h3, h4, h5, h7, h8, h10, h11⟩ := hc
  subst hn
  exact jr_callS C hXl (fun hok => hM hfl _ σ σ1 v hok hF) hd' h3 h4 h5 h7 (.inr ⟨hh, rfl, h8⟩) h10 h11 hd hstk hWt (fun _ => kk) (fun h _ => absurd h h9)
theorem jsx_callVH {ci : Nat} (As : List jT) (C : jC G X cc own nL ret d nm) (hXl : X.2.1 = l) (hc : jcvH hh own index ci y bytes maxL rt n) (hfl : jFl l) (hM : jM G l d' y (wsW_ y bytes maxL rt hh) F) (hd' : d' + 1 ≤ d) (hF : F ((2, a) :: As) σ σ1 v) (hn : n = As.length) (h0 : 0 ≤ a) (hK : jK σ a = ci) (hd : decode cc pc = .ok (.invokevirtual index, 3)) (hstk : As.reverse ++ (2, a) :: st = stk) (hWt : jwords st ≤ 33)
    (kk : ¬ v.1 = 9 → jWP G X nL (pc + 3) ls (jpush v st) σ1 σ' r) (kx : v.1 = 9 → 0 ≤ v.2 → jXW G X nL pc ls σ1 σ' r v.2) : jWP G X nL pc ls stk σ σ' r := by
  obtain ⟨rr, h1, h2, h3, h4, h5, h6, h7, h8, h10, h11⟩ := hc
  subst hn
  exact jr_callV ci C hXl (fun hok => hM hfl _ σ σ1 v hok hF) hd' h3 h4 h5 h6 h7 (.inr ⟨hh, rfl, h8⟩) h10 h11 h1 h2 h0 hK hd hstk hWt kk kx
end jShalH
section jStepsH
variable {hh : List (Nat × Nat × Nat × Nat)}
variable {G : jG} {l : Launch} {own nm : String} {d : Nat} {wr ty : Bool} {Hs : jHs} {i : Nat}
variable {d' maxL n0 : Nat} {y : MethodName} {bytes : ByteArray} {rt : Option FieldType} {ts ra : List Nat} {t tt rc : Nat} {ty' : Bool}
theorem jsVW_okH {ci : Nat} {Cf : List Int → jS → Option (jS × Int)} (hc : jcvH hh own i ci y bytes maxL rt ra.length) (hM : jM G l d' y (wsW_ y bytes maxL rt hh) (jFW true ((ra ++ [16 + ci]).reverse) t Cf) ∧ jXt true ((ra ++ [16 + ci]).reverse) Cf) (hd' : d' + 1 ≤ d) (ht9 : ¬ t = 9) (ht : t < 16) (hrc : rc = 0 ∨ (16 ≤ rc ∧ t = 2 ∧ ty = true)) : jKOk G l own d nm true ty Hs (16 * i + 2, jsCW (ra ++ [16 + ci]) t rc Cf) := by
  have hci : ci < 1000 := by obtain ⟨_, _, h, _⟩ := hc; exact h
  refine ⟨?_, jCW_2 (.inl rfl) (fun _ => rfl) hM.2 ht hrc⟩
  intro I n hI X cc nL ret pc lr st σ σ' r R mk kn kj x C hH hXl hd hs h hkn hmk hkj
  obtain ⟨rfl, rfl⟩ := jk_invokevirtual hI
  refine jsCW_st (mk := mk) (kn := kn) (kj := kj) (pc := pc) (.inl rfl) (fun _ => rfl) hM.2 ht hrc hs h fun ws s st1 σ1 z hlen hst hwd hk hq he hp hk1 h => ?_
  obtain ⟨a, ws', rfl, hl', e1, e2, e3⟩ := jrev_this (s := jgs s) (by omega) hlen
  have hT := (hk _ e3 (by show 16 ≤ 16 + ci; omega)).2.zz
  have k1 := hkn _ _ (fun e => nomatch e) he hk1 h
  rw [hp] at k1
  rw [hst, e2]
  refine js_callVH (jgs (jzs ra.reverse ws')) C hXl hc (hXl ▸ hH.1) hM.1 hd' (⟨a :: ws', z, by simpa using hlen, by rw [e1], hk, hq, rfl⟩ : jFW true _ t Cf _ σ σ1 (t, z)) (fun e9 : t = 9 => ht9 e9) ?_ hT.1 (by rw [hT.2.2.1]; show jTk (16 + ci) = _; unfold jTk; rw [if_pos (by omega)]; omega) hd rfl (by rw [jwords_g]; exact hwd) k1
  unfold jgs; rw [List.length_map, jzs_len (by simp [hl'])]; simp
theorem jsSW_okH {Cf : List Int → jS → Option (jS × Int)} (hc : jcsH hh own i y bytes maxL rt ts.length) (hM : jM G l d' y (wsW_ y bytes maxL rt hh) (jFW true ts.reverse t Cf) ∧ jXt true ts.reverse Cf) (hd' : d' + 1 ≤ d) (ht9 : ¬ t = 9) (ht : t < 16) (hrc : rc = 0 ∨ (16 ≤ rc ∧ t = 2 ∧ ty = true)) : jKOk G l own d nm true ty Hs (16 * i + 3, jsCW ts t rc Cf) := by
  refine ⟨?_, jCW_2 (.inl rfl) (fun _ => rfl) hM.2 ht hrc⟩
  intro I n hI X cc nL ret pc lr st σ σ' r R mk kn kj x C hH hXl hd hs h hkn hmk hkj
  obtain ⟨rfl, rfl⟩ := jk_invokestatic hI
  refine jsCW_st (mk := mk) (kn := kn) (kj := kj) (pc := pc) (.inl rfl) (fun _ => rfl) hM.2 ht hrc hs h fun ws s st1 σ1 z hlen hst hwd hk hq he hp hk1 h => ?_
  have k1 := hkn _ _ (fun e => nomatch e) he hk1 h
  rw [hp] at k1
  rw [hst]
  refine js_callSH (jgs (jzs ts.reverse ws)) C hXl hc (hXl ▸ hH.1) hM.1 hd' (⟨ws, z, by simp [hlen], rfl, hk, hq, rfl⟩ : jFW true _ t Cf _ σ σ1 (t, z)) (fun e9 : t = 9 => ht9 e9) ?_ hd rfl (by rw [jwords_g]; exact hwd) k1
  unfold jgs; rw [List.length_map, jzs_len (by simp [hlen])]; simp
theorem jsVX_okH {ci : Nat} {Cf : List Int → jS → Option (jS × Bool × Int)} (hc : jcvH hh own i ci y bytes maxL rt ra.length) (hM : jM G l d' y (wsW_ y bytes maxL rt hh) (jFX true ((ra ++ [16 + ci]).reverse) t Cf) ∧ jXt true ((ra ++ [16 + ci]).reverse) Cf) (hd' : d' + 1 ≤ d) (ht9 : ¬ t = 9) (ht : t < 16) (hrc : rc = 0 ∨ (16 ≤ rc ∧ t = 2 ∧ ty = true)) : jKOk G l own d nm true ty Hs (16 * i + 2, jsCX Hs (ra ++ [16 + ci]) t rc Cf) := by
  have hci : ci < 1000 := by obtain ⟨_, _, h, _⟩ := hc; exact h
  refine ⟨?_, jCX_2 (.inl rfl) (fun _ => rfl) hM.2 ht hrc⟩
  intro I n hI X cc nL ret pc lr st σ σ' r R mk kn kj x C hH hXl hd hs h hkn hmk hkj
  obtain ⟨rfl, rfl⟩ := jk_invokevirtual hI
  refine jsCX_st (mk := mk) (kn := kn) (kj := kj) (pc := pc) (.inl rfl) (fun _ => rfl) hM.2 ht hrc hs h fun ws s σ1 b z hlen hst hwd hk hq he h1 h2 => ?_
  obtain ⟨a, ws', rfl, hl', e1, e2, e3⟩ := jrev_this (s := jgs s) (by omega) hlen
  have hT := (hk _ e3 (by show 16 ≤ 16 + ci; omega)).2.zz
  rw [hst, e2]
  refine jsx_callVH (jgs (jzs ra.reverse ws')) C hXl hc (hXl ▸ hH.1) hM.1 hd' (⟨a :: ws', b, z, by simpa using hlen, by rw [e1], hk, hq, rfl⟩ : jFX true _ t Cf _ σ σ1 (jrx t b z)) ?_ hT.1 (by rw [hT.2.2.1]; show jTk (16 + ci) = _; unfold jTk; rw [if_pos (by omega)]; omega) hd rfl (by rw [jwords_g]; exact hwd) (fun g => ?_) (fun g g0 => ?_)
  · unfold jgs; rw [List.length_map, jzs_len (by simp [hl'])]; simp
  · cases b with
    | false =>
      obtain ⟨st1, a1, a2, a3⟩ := h1 rfl
      have k1 := hkn _ _ (fun e => nomatch e) he a2 a3
      rw [a1] at k1; exact k1
    | true => exact absurd rfl g
  · cases b with
    | false => exact absurd g ht9
    | true => exact jx_at hH.2 g0 (h2 rfl) (fun σ1 v h => hmk σ1 v (fun e => nomatch e) h) (fun q h => hkj q [(2, z)] σ1 (fun e => nomatch e) he (jst_k (by show 2 < 16; decide) (fun _ h => nomatch h)) h)
end jStepsH
end jHand2
