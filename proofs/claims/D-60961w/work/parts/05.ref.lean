/-! reference arrays, new cells, switches, returns -/
section jRef
variable {G : jG} {X : jX} {cc : ByteArray} {own nm : String} {nL d pc : Nat} {ret : Option FieldType} {ls : List (Nat × jT)} {st : List jT} {σ σ' : jS} {r : jT}
theorem jr_aald (C : jC G X cc own nL ret d nm) {a i : Int} (t : Nat) {ty : FieldType} (ht : t < 1000) (hty : jEt t = some ty) (hrf : ty.isReference = true) (htag : jtag ty = 2) (hd : decode cc pc = .ok (.aaload, 1)) (h0 : 0 ≤ a) (hK : jK σ a = 1000 + (t : Int)) (hi0 : 0 ≤ i) (hi1 : i < jN σ a) (kk : jWP G X nL (pc + 1) ls ((2, jF σ a i) :: st) σ σ' r) : jWP G X nL pc ls ((0, i) :: (2, a) :: st) σ σ' r := by
  obtain ⟨p, l, e, R, s, m, args, below, meth, c⟩ := X
  intro H locs la hR hL hs hl ha
  rw [jall_cons, jall_cons] at hs
  have hj := jok_i.mp hs.1
  obtain ⟨n0, n1, a4, a5, b1, -⟩ := jarr hR h0 hK ht hty
  rw [List.map_cons, List.map_cons, jv_i, jv_r h0]
  have e1 := a5 i.toNat (by omega)
  rw [jcast hi0, htag] at e1
  rw [htag] at a4
  exact W.aald C.1 C.2.1 a4 (b1 _ _) hrf (by simp [arrV]) (by rw [arrV_size]; exact jinb hi0 hi1 hj) (v := jv (2, jF σ a i)) (by rw [jclamp hi0 hj, arrV_read _ _ (by omega), jcast hi0]) rfl rfl hd (kk H locs la hR hL (jall_cons.mpr ⟨e1, hs.2.2⟩) hl ha)
theorem jr_aastN (C : jC G X cc own nL ret d nm) {a i : Int} (t : Nat) {E : String} (ht : t < 1000) (hty : jEt t = some (.object E)) (hd : decode cc pc = .ok (.aastore, 1)) (h0 : 0 ≤ a) (hK : jK σ a = 1000 + (t : Int)) (hi0 : 0 ≤ i) (hi1 : i < jN σ a) (kk : jWP G X nL (pc + 1) ls st (jput σ a i (-1)) σ' r) : jWP G X nL pc ls ((2, -1) :: (0, i) :: (2, a) :: st) σ σ' r := by
  obtain ⟨p, l, e, R, s, m, args, below, meth, c⟩ := X
  intro H locs la hR hL hs hl ha
  rw [jall_cons, jall_cons, jall_cons] at hs
  have hb0 := (hR.2.2.1 a.toNat).1 (by rw [jcast h0, hK]; omega) (by rw [jcast h0, hK]; omega)
  have hj := jok_i.mp hs.2.1
  obtain ⟨n0, n1, a4, a5, b1, -⟩ := jarr hR h0 hK ht hty
  rw [List.map_cons, List.map_cons, List.map_cons, jv_i, jv_r h0, jv_n]
  refine va_WaastN (C := E) C.1 C.2.1 a4 (b1 _ _) (by simp [arrV]) (by rw [arrV_size]; exact jinb hi0 hi1 hj) rfl rfl hd fun H' e1 e2 e3 => ?_
  rw [jclamp hi0 hj] at e1 ⊢
  have hR' := jR_puta (v := -1) hR h0 hK ht hty hi0 hi1 hs.1 e1 e2 e3
  have hsum := jsum_set a4 e2 e1 e3 (jset_size _ _ _)
  have h := kk H' _ la hR' (jlocs (a := a.toNat) (i := i.toNat) hL hb0 e2 hsum) hs.2.2.2 hl ha
  rw [e2, hsum] at h
  exact h
/-- the class of an object of a kind -/
theorem jcls {s : State} {H : Heap} {a : Int} {ci : Nat} {rr : vw_C} (hR : jRel G s σ H) (hcl : jCl[ci]? = some rr) (h0 : 0 ≤ a) (hK : jK σ a = ci) (hci : ci < 1000) : ∃ cell : Cell, H[a.toNat]? = some cell ∧ cell.cls = (gD G).1 ci ∧ cell.vm = .none ∧ ClassAt s rr.1 ((gD G).1 ci) := by
  obtain ⟨r', a1, ⟨cell, q1, q2, q3, q4⟩, a3⟩ := ((hR.2.2.1 a.toNat).n (by rw [jcast h0, hK]; omega)).1 (by rw [jcast h0, hK]; omega) (by rw [jcast h0, hK]; omega)
  simp only [jcast h0, hK, Int.toNat_natCast] at a1 q2
  cases a1.symm.trans hcl
  exact ⟨cell, q1, q2, q3, (hR.2.2.2.2.2.2.1.1 ci _ hcl).2⟩
/-- a store of an object whose class can be cast to the element's (the same class, or by a word) -/
theorem jr_aast (C : jC G X cc own nL ret d nm) {a i v : Int} (t ci : Nat) {E : String} {rr : vw_C} (ht : t < 1000) (hty : jEt t = some (.object E)) (hcl : jCl[ci]? = some rr) (hcast : rr.1 = E ∨ Cond.castable rr.1 E ∈ lw_tbl) (hd : decode cc pc = .ok (.aastore, 1)) (h0 : 0 ≤ a) (hK : jK σ a = 1000 + (t : Int)) (hi0 : 0 ≤ i) (hi1 : i < jN σ a) (hv0 : 0 ≤ v) (hKv : jK σ v = ci) (hci : ci < 1000)
    (kk : jWP G X nL (pc + 1) ls st (jput σ a i v) σ' r) : jWP G X nL pc ls ((2, v) :: (0, i) :: (2, a) :: st) σ σ' r := by
  obtain ⟨p, l, e, R, s, m, args, below, meth, c⟩ := X
  intro H locs la hR hL hs hl ha
  rw [jall_cons, jall_cons, jall_cons] at hs
  have hb0 := (hR.2.2.1 a.toNat).1 (by rw [jcast h0, hK]; omega) (by rw [jcast h0, hK]; omega)
  have hj := jok_i.mp hs.2.1
  obtain ⟨n0, n1, a4, a5, b1, kA, comp, k1, k2, k3, -⟩ := jarr hR h0 hK ht hty
  obtain ⟨cellV, g1, g2, g3, hfV, kV, hkV, hkindV⟩ := jcls hR hcl hv0 hKv hci
  have hass : s.vm.assignable ((gD G).1 ci) comp = true := by
    rcases hcast with h | h
    · rw [h] at hfV
      cases k3.symm.trans hfV
      exact va_assign ⟨hfV, kV, hkV, hkindV⟩
    · obtain ⟨c', t', e1, e2, e3⟩ := Cond.castable_spec (va_Nw.use (A := #[]) rfl (hR.2.2.2.2.2.2.2.2.1 _ h rfl))
      cases hfV.symm.trans e1
      cases k3.symm.trans e2
      exact e3
  obtain ⟨kcomp, hkcomp⟩ := Vm.classAt_of_findClass k3
  rw [List.map_cons, List.map_cons, List.map_cons, jv_i, jv_r h0, jv_r hv0]
  refine W.aast C.1 C.2.1 a4 (fun q h => by cases h) (by simp [arrV]) k1 k2 rfl hkcomp ⟨by rw [jo_0, jo_lt hj jin_0]; omega, by rw [arrV_size, jclamp hi0 hj]; omega⟩ g1 (fun q h => by rw [g3] at h; cases h) (by rw [g2]; exact hkV) (by rw [g2]; exact hass) rfl rfl hd fun H' e1 e2 e3 => ?_
  rw [jclamp hi0 hj] at e1 ⊢
  have e1 : H'[a.toNat]? = some ((arrV (gA G t) (jN σ a).toNat (fun i => jv (jtag (.object E), jF σ a i))).setSlot i.toNat (jv (jtag (.object E), v))) := by
    rw [e1]; show _ = some (Cell.setSlot _ _ (jv (2, v))); rw [jv_r hv0]
  have hR' := jR_puta (v := v) hR h0 hK ht hty hi0 hi1 hs.1 e1 e2 e3
  have hsum := jsum_set a4 e2 e1 e3 (jset_size _ _ _)
  have h := kk H' _ la hR' (jlocs (a := a.toNat) (i := i.toNat) hL hb0 e2 hsum) hs.2.2.2 hl ha
  rw [e2, hsum] at h
  exact h
/-- the fields of a new object -/
def jdef (t : FieldType) : Int := if jtag t = 2 then -1 else 0
theorem jdef_v (t : FieldType) (h : t ≠ .float ∧ t ≠ .double) : defaultValue t = jv (jtag t, jdef t) := by
  cases t <;> first | rfl | exact absurd rfl h.1 | exact absurd rfl h.2
theorem jdef_ok (t : FieldType) : jok (jtag t, jdef t) := by
  cases t <;> simp [jtag, jdef, jok, jin, jlin]
/-- new: an object of class ci -/
theorem jr_new (C : jC G X cc own nL ret d nm) {index : Nat} (ci : Nat) {rr : vw_C} (hcl : jCl[ci]? = some rr) (hci : ci < 1000) (hfl : ∀ k, k < rr.2.2 → jTy ci k ≠ .float ∧ jTy ci k ≠ .double) (w1 : Cond.classLink own index rr.1 ∈ lw_all) (w2 : Cond.instantiable rr.1 rr.2.2 ∈ lw_all) (w3 : Cond.initialized rr.1 ∈ lw_all) (hd : decode cc pc = .ok (.new index, 3))
    (hn : jn σ + 1 ≤ jlN σ) (hu : ju σ + rr.2.2 ≤ jlU σ) (kk : jWP G X nL (pc + 3) ls ((2, jn σ) :: st) (jmk σ ci 0 (fun i => jdef (jTy ci i.toNat)) rr.2.2) σ' r) : jWP G X nL pc ls st σ σ' r := by
  obtain ⟨p, l, e, R, s, m, args, below, meth, c⟩ := X
  intro H locs la hR hL hs hl ha
  obtain ⟨C1, C2, C3, C4, C5, C6, C7, C8, C9, C10, C11, C12⟩ := C
  have hKn := hR.2.2.2.2.2.2.1.1 ci _ hcl
  have z1 := hR.1
  have z2 := hR.2.1
  have z3 := hR.2.2.2.2.1
  have z4 := hR.2.2.2.2.2.1
  obtain ⟨kC, hkC, hsz⟩ : ∃ kC : Class, s.vm.classes[(gD G).1 ci]? = some kC ∧ kC.instanceTypes.size = rr.2.2 := by
    obtain ⟨cC, kC, h1, h2, -, -, -, h4⟩ := Cond.instantiable_spec (C5 _ w2)
    cases hKn.2.1.symm.trans h1
    exact ⟨kC, h2, h4⟩
  have hL2 := hL.2.1
  have hL3 := hL.2.2
  have hr1 : (H.size - s.heap.size) + 1 ≤ R.cells := by rw [C8.2.1]; omega
  have hr2 : (jsum H - jsum s.heap) + rr.2.2 ≤ R.slots := by rw [C8.2.2.1]; omega
  refine W.newcK C1 C2 C4 (C5 _ w1) (C5 _ w2) (C5 _ w3) rfl hd hr1 hr2 hKn.2.1 rfl fun H' kC' hkC' e1 e2 e3 => ?_
  cases hkC.symm.trans hkC'
  obtain ⟨c1, c2, c3⟩ := jcl_all ci rr hcl
  have hbs : (blank ((gD G).1 ci) kC).slots.size = rr.2.2 := by simp [blank, hsz]
  have hsum := jsum_push e2 e1 e3
  rw [hbs] at hsum
  have hR' := jRel.mk (k := ci) (nn := 0) (f := fun i => jdef (jTy ci i.toNat)) hR e1 e2 e3 (by omega) (by rw [hbs]; omega) (jcell.mk ⟨fun _ _ => ⟨rr, by simpa using hcl, ?_, fun i _ => by simpa using jdef_ok _⟩, fun q _ => by omega, fun q _ => by omega⟩ (by omega) (by have := hR.2.2.2.1; omega))
  · rw [hbs] at hR'
    have h := kk H' locs la hR' ⟨hL.1, by have := hL.2.1; omega, by have := hL.2.2; omega⟩ (jall_cons.mpr ⟨jok_r.mpr (by omega), hs⟩) hl ha
    rw [e2, hsum, List.map_cons, jv_r (by omega), show H.size + 1 - s.heap.size = (H.size - s.heap.size) + 1 by have := hL.2.1; omega, show jsum H + rr.2.2 - jsum s.heap = (jsum H - jsum s.heap) + rr.2.2 by have := hL.2.2; omega, ← z1, Int.toNat_natCast] at h
    exact h
  · exact (u_born (jTy ci) C5 c1 hKn hkC e1 c2).to (fun i hi => by simpa using jdef_v _ (hfl i hi))
/-- newarray -/
theorem jr_newa (C : jC G X cc own nL ret d nm) {atype : ArrayType} {n : Int} (t : Nat) (ht : t < 6) (hty : jEt t = some (newarray.typeOf atype)) (htag : jtag (newarray.typeOf atype) ≠ 2) (hdef : newarray.typeOf atype ≠ .float ∧ newarray.typeOf atype ≠ .double) (hcomp : componentBytes (newarray.typeOf atype) ≤ 8) (w1 : Cond.arrayClass (newarray.typeOf atype) ∈ lw_all) (hd : decode cc pc = .ok (.newarray atype, 2))
    (hn0 : 0 ≤ n) (hn1 : n ≤ 1000000) (hn : jn σ + 1 ≤ jlN σ) (hu : ju σ + n ≤ jlU σ) (kk : jWP G X nL (pc + 2) ls ((2, jn σ) :: st) (jmk σ (1000 + t) n (fun _ => 0) n) σ' r) : jWP G X nL pc ls ((0, n) :: st) σ σ' r := by
  obtain ⟨p, l, e, R, s, m, args, below, meth, c⟩ := X
  intro H locs la hR hL hs hl ha
  rw [jall_cons] at hs
  obtain ⟨C1, C2, C3, C4, C5, C6, C7, C8, C9, C10, C11, C12⟩ := C
  have z1 := hR.1
  have z2 := hR.2.1
  have z3 := hR.2.2.2.2.1
  have z4 := hR.2.2.2.2.2.1
  have hL2 := hL.2.1
  have hL3 := hL.2.2
  have hj := jok_i.mp hs.1
  have hN := jclamp hn0 hj
  have hr1 : (H.size - s.heap.size) + 1 ≤ R.cells := by rw [C8.2.1]; omega
  have hr2 : (jsum H - jsum s.heap) + n.toNat ≤ R.slots := by rw [C8.2.2.1]; omega
  rw [List.map_cons, jv_i]
  refine W.newa C1 C2 (C5 _ w1) rfl hd rfl (by rw [jo_0, jo_lt hj jin_0]; omega) (by rw [hN]; have : n.toNat * componentBytes (newarray.typeOf atype) ≤ n.toNat * 8 := Nat.mul_le_mul_left _ hcomp; omega) hr1 (by rw [hN]; exact hr2) fun cA kA comp f1 f2 f3 => ?_
  rw [hN]
  have hcA : cA = gA G t := by
    have h := (hR.2.2.2.2.2.2.2.1 t _ hty).2
    cases hq : newarray.typeOf atype with
    | object E => rw [hq] at htag; exact absurd rfl htag
    | array E => rw [hq] at htag; exact absurd rfl htag
    | _ => rw [hq] at h f1; exact Option.some.inj (f1.symm.trans h)
  subst hcA
  rw [arrV_new]
  generalize hH' : Array.push H (arrV (gA G t) n.toNat (fun _ => defaultValue (newarray.typeOf atype))) = H'
  have e1 : H'[H.size]? = some (arrV (gA G t) n.toNat (fun _ => defaultValue (newarray.typeOf atype))) := by rw [← hH']; simp
  have e2 : H'.size = H.size + 1 := by rw [← hH']; simp
  have e3 : ∀ q : Nat, q < H.size → H'[q]? = H[q]? := fun q hq => by rw [← hH', Array.getElem?_push, if_neg (by omega)]
  have hsum := jsum_push e2 e1 e3
  rw [arrV_size] at hsum
  have hdv := jdef_v _ hdef
  have hd0 : jdef (newarray.typeOf atype) = 0 := if_neg htag
  rw [hd0] at hdv
  have hR' := jRel.mk (k := 1000 + t) (nn := n) (f := fun _ => 0) hR e1 e2 e3 (by omega) (by rw [arrV_size]; omega) (jcell.mk ⟨fun _ q => by omega, fun _ _ => ⟨_, by rw [show (1000 + (t : Int) - 1000).toNat = t by omega]; exact hty, hn0, by omega, ?_, fun i _ => by have := jdef_ok (newarray.typeOf atype); rw [hd0] at this; exact this⟩, fun q _ => by omega⟩ (by omega) (by have := hR.2.2.2.1; omega))
  · rw [arrV_size, jcast hn0] at hR'
    have h := kk H' locs la hR' ⟨hL.1, by omega, by omega⟩ (jall_cons.mpr ⟨jok_r.mpr (by omega), hs.2⟩) hl ha
    rw [e2, hsum, List.map_cons, jv_r (by omega), show H.size + 1 - s.heap.size = (H.size - s.heap.size) + 1 by omega, show jsum H + n.toNat - jsum s.heap = (jsum H - jsum s.heap) + n.toNat by omega, ← z1, Int.toNat_natCast] at h
    exact h
  · rw [show (1000 + (t : Int) - 1000).toNat = t by omega, e1, hdv]
/-- anewarray -/
theorem jr_anew (C : jC G X cc own nL ret d nm) {E : String} {index : Nat} {n : Int} (t : Nat) (ht : t < 1000) (hty : jEt t = some (.object E)) (w1 : Cond.classLink own index E ∈ lw_all) (w2 : Cond.arrayOver (.object E) ∈ lw_tbl) (hd : decode cc pc = .ok (.anewarray index, 3))
    (hn0 : 0 ≤ n) (hn1 : n ≤ 1000000) (hn : jn σ + 1 ≤ jlN σ) (hu : ju σ + n ≤ jlU σ) (kk : jWP G X nL (pc + 3) ls ((2, jn σ) :: st) (jmk σ (1000 + t) n (fun _ => -1) n) σ' r) : jWP G X nL pc ls ((0, n) :: st) σ σ' r := by
  obtain ⟨p, l, e, R, s, m, args, below, meth, c⟩ := X
  intro H locs la hR hL hs hl ha
  rw [jall_cons] at hs
  obtain ⟨C1, C2, C3, C4, C5, C6, C7, C8, C9, C10, C11, C12⟩ := C
  have z1 := hR.1
  have z2 := hR.2.1
  have z3 := hR.2.2.2.2.1
  have z4 := hR.2.2.2.2.2.1
  have hL2 := hL.2.1
  have hL3 := hL.2.2
  have hj := jok_i.mp hs.1
  have hN := jclamp hn0 hj
  have hr1 : (H.size - s.heap.size) + 1 ≤ R.cells := by rw [C8.2.1]; omega
  have hr2 : (jsum H - jsum s.heap) + n.toNat ≤ R.slots := by rw [C8.2.2.1]; omega
  rw [List.map_cons, jv_i]
  refine W.anew C1 C2 C4 (C5 _ w1) ((hR.2.2.2.2.2.2.2.2.2.1 E w2).use) rfl hd rfl (by rw [jo_0, jo_lt hj jin_0]; omega) (by rw [hN]; omega) hr1 (by rw [hN]; exact hr2) fun cA kA comp f1 f2 f3 f4 => ?_
  rw [hN]
  have hcA : cA = gA G t := by
    obtain ⟨kA', comp', -, -, -, h⟩ := (hR.2.2.2.2.2.2.2.1 t _ hty).2
    exact Option.some.inj (f1.symm.trans h)
  subst hcA
  rw [arrV_new]
  generalize hH' : Array.push H (arrV (gA G t) n.toNat (fun _ => Value.null)) = H'
  have e1 : H'[H.size]? = some (arrV (gA G t) n.toNat (fun _ => Value.null)) := by rw [← hH']; simp
  have e2 : H'.size = H.size + 1 := by rw [← hH']; simp
  have e3 : ∀ q : Nat, q < H.size → H'[q]? = H[q]? := fun q hq => by rw [← hH', Array.getElem?_push, if_neg (by omega)]
  have hsum := jsum_push e2 e1 e3
  rw [arrV_size] at hsum
  have hR' := jRel.mk (k := 1000 + t) (nn := n) (f := fun _ => -1) hR e1 e2 e3 (by omega) (by rw [arrV_size]; omega) (jcell.mk ⟨fun _ q => by omega, fun _ _ => ⟨.object E, by rw [show (1000 + (t : Int) - 1000).toNat = t by omega]; exact hty, hn0, by omega, ?_, fun i _ => (show jok (2, -1) from jok_r.mpr (by omega))⟩, fun q _ => by omega⟩ (by omega) (by have := hR.2.2.2.1; omega))
  · rw [arrV_size, jcast hn0] at hR'
    have h := kk H' locs la hR' ⟨hL.1, by omega, by omega⟩ (jall_cons.mpr ⟨jok_r.mpr (by omega), hs.2⟩) hl ha
    rw [e2, hsum, List.map_cons, jv_r (by omega), show H.size + 1 - s.heap.size = (H.size - s.heap.size) + 1 by omega, show jsum H + n.toNat - jsum s.heap = (jsum H - jsum s.heap) + n.toNat by omega, ← z1, Int.toNat_natCast] at h
    exact h
  · rw [show (1000 + (t : Int) - 1000).toNat = t by omega, e1]; rfl
/-- switches -/
theorem jr_tableIn (C : jC G X cc own nL ret d nm) {dflt lo hi : Int} {offs : Array Int} {len : Nat} {x off : Int} {tgt : Nat} (hd : decode cc pc = .ok (.tableswitch dflt lo hi offs, len)) (h1 : ¬ x < lo) (h2 : ¬ hi < x) (ho : offs[(x - lo).toNat]? = some off) (ht : (pc : Int) + off = (tgt : Int)) (k : jWP G X nL tgt ls st σ σ' r) : jWP G X nL pc ls ((0, x) :: st) σ σ' r := by
  obtain ⟨p, l, e, R, s, m, args, below, meth, c⟩ := X
  intro H locs la hR hL hs hl ha
  rw [jall_cons] at hs
  have hx := jo_t (jok_i.mp hs.1)
  exact lv_tableIn C.1 C.2.1 hd (by rw [hx]; exact h1) (by rw [hx]; exact h2) (by rw [hx]; exact ho) ht (k H locs la hR hL hs.2 hl ha)
theorem jr_tableOut (C : jC G X cc own nL ret d nm) {dflt lo hi : Int} {offs : Array Int} {len : Nat} {x : Int} {tgt : Nat} (hd : decode cc pc = .ok (.tableswitch dflt lo hi offs, len)) (h1 : x < lo ∨ hi < x) (ht : (pc : Int) + dflt = (tgt : Int)) (k : jWP G X nL tgt ls st σ σ' r) : jWP G X nL pc ls ((0, x) :: st) σ σ' r := by
  obtain ⟨p, l, e, R, s, m, args, below, meth, c⟩ := X
  intro H locs la hR hL hs hl ha
  rw [jall_cons] at hs
  have hx := jo_t (jok_i.mp hs.1)
  exact lv_tableOut C.1 C.2.1 hd (by rw [hx]; exact h1) ht (k H locs la hR hL hs.2 hl ha)
theorem jr_lookup (C : jC G X cc own nL ret d nm) {dflt : Int} {ps : Array (Int × Int)} {len : Nat} {x off : Int} {tgt : Nat} (hd : decode cc pc = .ok (.lookupswitch dflt ps, len)) (hp : (ps.toList.zip (ps.toList.drop 1)).all (fun (a, next) => a.1 < next.1) = true) (ho : Op.lookupswitch.offset ps.toList dflt x = off) (ht : (pc : Int) + off = (tgt : Int)) (k : jWP G X nL tgt ls st σ σ' r) : jWP G X nL pc ls ((0, x) :: st) σ σ' r := by
  obtain ⟨p, l, e, R, s, m, args, below, meth, c⟩ := X
  intro H locs la hR hL hs hl ha
  rw [jall_cons] at hs
  have hx := jo_t (jok_i.mp hs.1)
  exact lv_lookup C.1 C.2.1 hd hp (by rw [hx]; exact ho) ht (k H locs la hR hL hs.2 hl ha)
theorem jrf_eq {x y : Int} (hx : -1 ≤ x) (hy : -1 ≤ y) : jrf x = jrf y ↔ x = y := by
  unfold jrf
  by_cases h1 : x < 0 <;> by_cases h2 : y < 0 <;> simp [h1, h2] <;> omega
theorem jr_acmp_eq (C : jC G X cc own nL ret d nm) {x y : Int} {off : Int} {tgt : Nat} (hd : decode cc pc = .ok (.if_acmp .eq off, 3)) (ht : (pc : Int) + off = (tgt : Int)) (kt : x = y → jWP G X nL tgt ls st σ σ' r) (kf : ¬ x = y → jWP G X nL (pc + 3) ls st σ σ' r) : jWP G X nL pc ls ((2, y) :: (2, x) :: st) σ σ' r := by
  obtain ⟨p, l, e, R, s, m, args, below, meth, c⟩ := X
  intro H locs la hR hL hs hl ha
  rw [jall_cons, jall_cons] at hs
  have e1 := jrf_eq (jok_r.mp hs.2.1) (jok_r.mp hs.1)
  rw [List.map_cons, List.map_cons, jv_rf, jv_rf]
  exact lv_acmp_eq C.1 C.2.1 hd ht (fun h => kt (e1.mp h) H locs la hR hL hs.2.2 hl ha) (fun h => kf (fun q => h (e1.mpr q)) H locs la hR hL hs.2.2 hl ha)
theorem jr_acmp_ne (C : jC G X cc own nL ret d nm) {x y : Int} {off : Int} {tgt : Nat} (hd : decode cc pc = .ok (.if_acmp .ne off, 3)) (ht : (pc : Int) + off = (tgt : Int)) (kt : ¬ x = y → jWP G X nL tgt ls st σ σ' r) (kf : x = y → jWP G X nL (pc + 3) ls st σ σ' r) : jWP G X nL pc ls ((2, y) :: (2, x) :: st) σ σ' r := by
  obtain ⟨p, l, e, R, s, m, args, below, meth, c⟩ := X
  intro H locs la hR hL hs hl ha
  rw [jall_cons, jall_cons] at hs
  have e1 := jrf_eq (jok_r.mp hs.2.1) (jok_r.mp hs.1)
  rw [List.map_cons, List.map_cons, jv_rf, jv_rf]
  exact lv_acmp_ne C.1 C.2.1 hd ht (fun h => kt (fun q => h (e1.mpr q)) H locs la hR hL hs.2.2 hl ha) (fun h => kf (e1.mp h) H locs la hR hL hs.2.2 hl ha)
end jRef
