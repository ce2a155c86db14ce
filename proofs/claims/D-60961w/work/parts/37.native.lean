/-! System.arraycopy and clone of byte arrays, casts -/
noncomputable section
def jbyt (σ : jS) (a lo hi : Int) : Prop := ∀ i, lo ≤ i → i < hi → -128 ≤ jF σ a i ∧ jF σ a i ≤ 127
def jcpy (σ : jS) (src sp dst dp n : Int) : jS := (jK σ, jN σ, fun c x y => if c = 1001 ∧ x = dst ∧ dp ≤ y ∧ y < dp + n then jF σ src (sp + (y - dp)) else jf σ c x y, jn σ, ju σ, jlN σ, jlU σ, jc σ)
def jacp (σ : jS) (src sp dst dp n : Int) : Option jS := @ite _ (0 ≤ src ∧ 0 ≤ dst ∧ (jK σ src = 1001 ∨ jK σ src = 4001) ∧ jK σ dst = 1001 ∧ 0 ≤ sp ∧ 0 ≤ dp ∧ 0 ≤ n ∧ sp + n ≤ jN σ src ∧ dp + n ≤ jN σ dst ∧ jbyt σ src sp (sp + n)) (Classical.propDecidable _) (some (jcpy σ src sp dst dp n)) none
def jcln (σ : jS) (a : Int) : Option (jS × Int) := @ite _ (0 ≤ a ∧ (jK σ a = 1001 ∨ jK σ a = 4001) ∧ jn σ + 1 ≤ jlN σ ∧ ju σ + jN σ a ≤ jlU σ ∧ jbyt σ a 0 (jN σ a)) (Classical.propDecidable _) (some (jmk σ 1001 (jN σ a) (jF σ a) (jN σ a), jn σ)) none
theorem jF_cpy {σ : jS} {src sp dst dp n : Int} (hd : jK σ dst = 1001) (b y : Int) : jF (jcpy σ src sp dst dp n) b y = if b = dst ∧ dp ≤ y ∧ y < dp + n then jF σ src (sp + (y - dp)) else jF σ b y := by
  show (if jK σ b = 1001 ∧ b = dst ∧ dp ≤ y ∧ y < dp + n then jF σ src (sp + (y - dp)) else jf σ (jK σ b) b y) = _
  by_cases h : b = dst
  · subst h; rw [hd, jf_F hd]; simp
  · simp [h]; rfl
section jNat
variable {G : jG} {X : jX} {l : Launch} {cc : ByteArray} {own nm : String} {nL d pc : Nat} {ret : Option FieldType} {ls : List (Nat × jT)} {st : List jT} {σ σ' : jS} {r : jT}
theorem jRel.bulk {s : State} {σ1 : jS} {H H' : Heap} {a0 : Nat} {f : Int → Int} {cell cell' : Cell} (hR : jRel G s σ H) (h0 : H[a0]? = some cell) (e1 : H'[a0]? = some cell') (e2 : H'.size = H.size) (e3 : ∀ q : Nat, q ≠ a0 → H'[q]? = H[q]?) (e4 : cell'.slots.size = cell.slots.size) (hgb : gb G ≤ a0)
    (hc : jcell G (jK σ a0) (jN σ a0) f H' a0) (g1 : jK σ1 = jK σ) (g2 : jN σ1 = jN σ) (g3 : jn σ1 = jn σ) (g4 : ju σ1 = ju σ) (g5 : jlN σ1 = jlN σ) (g6 : jlU σ1 = jlU σ) (g7 : jc σ1 = jc σ) (g8 : ∀ y, jF σ1 a0 y = f y) (g9 : ∀ b : Nat, b ≠ a0 → ∀ y, jF σ1 b y = jF σ b y) : jRel G s σ1 H' := by
  obtain ⟨r1, r2, r3, r4, r5, r6, r7⟩ := hR
  have hsum := jsum_set h0 e2 e1 e3 e4
  refine ⟨by rw [e2, g3]; exact r1, by rw [hsum, g4]; exact r2, fun b => ?_, by rw [e2]; exact r4, by rw [e2, g5]; exact r5, ⟨by rw [hsum]; exact r6.1, by rw [g6]; exact r6.2.1, r6.2.2.kept g7 (fun q hq => e3 q (by omega))⟩, r7⟩
  rw [g1, g2]
  by_cases h : b = a0
  · subst h
    exact hc.cong (fun i => (g8 i).symm)
  · exact ((r3 b).kept (e3 b h)).cong (fun i => (g9 b h i).symm)
theorem jfitb {v : Int} (h : -128 ≤ v ∧ v ≤ 127) : fits .byte (jv (0, v)) = true := (jfit_byte h).2
theorem jr_acp (C : jC G X cc own nL ret d nm) {src sp dst dp n : Int} {index : Nat} (w1 : Cond.methodLink own index arraycopyName ∈ lw_all) (w2 : Cond.native arraycopyName ∈ lw_all) (w3 : Cond.static arraycopyName ∈ lw_all) (w4 : Cond.initialized "java/lang/System" ∈ lw_all) (hd1 : 1 ≤ d) (hd : decode cc pc = .ok (.invokestatic index, 3)) (hWt : jwords st ≤ 13)
    (h : 0 ≤ src ∧ 0 ≤ dst ∧ (jK σ src = 1001 ∨ jK σ src = 4001) ∧ jK σ dst = 1001 ∧ 0 ≤ sp ∧ 0 ≤ dp ∧ 0 ≤ n ∧ sp + n ≤ jN σ src ∧ dp + n ≤ jN σ dst ∧ jbyt σ src sp (sp + n)) (kk : jWP G X nL (pc + 3) ls st (jcpy σ src sp dst dp n) σ' r) : jWP G X nL pc ls ((0, n) :: (0, dp) :: (2, dst) :: (0, sp) :: (2, src) :: st) σ σ' r := by
  obtain ⟨p, l, e, R, s, m, args, below, meth, c⟩ := X
  intro H locs la hR hL hs hl ha
  rw [jall_cons, jall_cons, jall_cons, jall_cons, jall_cons] at hs
  obtain ⟨h0, h1, h2, h3, h4, h5, h6, h7, h8, h9⟩ := h
  obtain ⟨C1, C2, C3, C4, C5, C6, C7, ⟨C81, C82, C83, C84⟩, C9, C10, C11, C12⟩ := C
  have jn' := jok_i.mp hs.1
  have jd' := jok_i.mp hs.2.1
  have js' := jok_i.mp hs.2.2.2.1
  have hst := hs.2.2.2.2.2
  have hb0 := (hR.2.2.1 dst.toNat).1 (by rw [jcast h1, h3]; omega) (by rw [jcast h1, h3]; omega)
  obtain ⟨n0, n1, a4, a5, b1, -⟩ := jarrE (t := 1) (ty := .byte) hR h0 h2 (by omega) rfl
  obtain ⟨m0, m1, b4, b5, b6, -⟩ := jarr (t := 1) (ty := .byte) hR h1 h3 (by omega) rfl
  obtain ⟨q1, k0, hk0, cm0, hkk0⟩ := b1 (jN σ src).toNat (fun i => jv (jtag .byte, jF σ src i))
  obtain ⟨q2, k1, hk1, cm1, hkk1⟩ := b6 (jN σ dst).toNat (fun i => jv (jtag .byte, jF σ dst i))
  simp only [List.map_cons, jv_i, jv_r h0, jv_r h1]
  have hN := jclamp h6 jn'
  have hD := jclamp h5 jd'
  have hS := jclamp h4 js'
  intro T hT X
  obtain ⟨vm', X', step⟩ := X.arraycopy C1 C4 (C5 _ w1) (C5 _ w2) (C5 _ w3) (C5 _ w4) (src := src.toNat) (dst := dst.toNat) (cs := arrV (gA G 1) (jN σ src).toNat (fun i => jv (jtag .byte, jF σ src i))) (cd := arrV (gA G 1) (jN σ dst).toNat (fun i => jv (jtag .byte, jF σ dst i))) (srcPos := Int32.ofInt sp) (destPos := Int32.ofInt dp) (n := Int32.ofInt n) (by rw [hT]; exact a4) (by rw [hT]; exact b4)
    (fun _ h => by cases h) (fun _ h => by cases h) (fun h => by cases h) (fun h => by cases h) hk0 hk1 hkk0 hkk1 (by simp [refKind])
    (by rw [jo_0, jo_lt js' jin_0]; omega) (by rw [jo_0, jo_lt jd' jin_0]; omega) (by rw [jo_0, jo_lt jn' jin_0]; omega)
    (by rw [jo_t js', jo_t jn', arrV_size]; omega) (by rw [jo_t jd', jo_t jn', arrV_size]; omega)
    (fun vm₁ _ i hi => by
      rw [hN] at hi
      have e : (arrV (gA G 1) (jN σ src).toNat (fun i => jv (jtag .byte, jF σ src i))).slots.getD ((Int32.ofInt sp).toNatClampNeg + i) .null = jv (0, jF σ src (sp + i)) := by
        rw [Array.getD_eq_getD_getElem?, hS, arrV_read _ _ (by omega)]
        show jv (0, jF σ src ((sp.toNat + i : Nat) : Int)) = _
        rw [show ((sp.toNat + i : Nat) : Int) = sp + i by omega]
      rw [e]
      exact ⟨jfitb (h9 _ (by omega) (by omega)), trivial⟩)
    (g := F0 m pc la (.int (Int32.ofInt n) :: .int (Int32.ofInt dp) :: .ref dst.toNat :: .int (Int32.ofInt sp) :: .ref src.toNat :: st.map jv)) rfl (by rw [C3]; exact ha.1) (rest := st.map jv) rfl (by rw [C2]; exact hd) (by omega) (by
      show 2 * 0 + _ + _ ≤ _
      rw [jwords_cat hst]
      have : nativeFrameWords "java/lang/System" "arraycopy" 5 + 11 ≤ 32 := by decide +kernel
      omega)
  have ecd : copied (arrV (gA G 1) (jN σ src).toNat (fun i => jv (jtag .byte, jF σ src i))) (arrV (gA G 1) (jN σ dst).toNat (fun i => jv (jtag .byte, jF σ dst i))) (Int32.ofInt sp) (Int32.ofInt dp) (Int32.ofInt n) = arrV (gA G 1) (jN σ dst).toNat (fun i => jv (jtag .byte, jF (jcpy σ src sp dst dp n) dst i)) := by
    have := va_copiedX (fun z : Int => jv (0, z)) (arrV (gA G 1) (jN σ src).toNat (fun i => jv (jtag .byte, jF σ src i))) (gA G 1) (n0 := (jN σ src).toNat) (n1 := (jN σ dst).toNat) (sp := (Int32.ofInt sp).toNatClampNeg) (dp := (Int32.ofInt dp).toNatClampNeg) (n := (Int32.ofInt n).toNatClampNeg) (fun i => jF σ src (i : Nat)) (fun i => jF σ dst (i : Nat)) (fun j hj => arrV_read _ _ hj) (by rw [hS, hN]; omega)
    refine this.trans ?_
    rw [hS, hD, hN]
    congr 1
    funext j
    show jv (0, va_cpy _ _ _ _ _ j) = jv (0, _)
    rw [jF_cpy h3]
    unfold va_cpy
    by_cases hj : dp.toNat ≤ j ∧ j < dp.toNat + n.toNat
    · rw [if_pos hj, if_pos ⟨rfl, by omega, by omega⟩]
      show jv (0, jF σ src ((sp.toNat + (j - dp.toNat) : Nat) : Int)) = _
      rw [show ((sp.toNat + (j - dp.toNat) : Nat) : Int) = sp + ((j : Int) - dp) by omega]
    · rw [if_neg hj, if_neg (fun q => hj (by omega))]
  rw [ecd] at X' step
  have hl' : dst.toNat < H.size := (Array.getElem?_eq_some_iff.mp b4).1
  generalize hH' : H.setIfInBounds dst.toNat (arrV (gA G 1) (jN σ dst).toNat (fun i => jv (jtag .byte, jF (jcpy σ src sp dst dp n) dst i))) = H' at *
  have e1 : H'[dst.toNat]? = some (arrV (gA G 1) (jN σ dst).toNat (fun i => jv (jtag .byte, jF (jcpy σ src sp dst dp n) dst i))) := by rw [← hH']; simp [Array.getElem?_setIfInBounds, hl']
  have e2 : H'.size = H.size := by rw [← hH']; simp
  have e3 : ∀ q : Nat, q ≠ dst.toNat → H'[q]? = H[q]? := fun q hq => by rw [← hH']; simp [Array.getElem?_setIfInBounds, Ne.symm hq]
  have e4 : (arrV (gA G 1) (jN σ dst).toNat (fun i => jv (jtag .byte, jF (jcpy σ src sp dst dp n) dst i))).slots.size = (arrV (gA G 1) (jN σ dst).toNat (fun i => jv (jtag .byte, jF σ dst i))).slots.size := by rw [arrV_size, arrV_size]
  have hsum := jsum_set b4 e2 e1 e3 e4
  have hR' : jRel G s (jcpy σ src sp dst dp n) H' := by
    refine jRel.bulk (σ1 := jcpy σ src sp dst dp n) (f := jF (jcpy σ src sp dst dp n) dst) hR b4 e1 e2 e3 e4 hb0 ?_ rfl rfl rfl rfl rfl rfl rfl (fun y => by rw [jcast h1]) (fun b hb y => by rw [jF_cpy h3, if_neg (fun q => hb (by omega))])
    rw [jcast h1, h3]
    refine jcell.mk ⟨fun _ q => by omega, fun _ _ => ⟨.byte, rfl, m0, m1, e1, fun j hj => ?_⟩, fun q _ => by omega⟩ (by omega) hb0
    show jok (0, _)
    rw [jF_cpy h3]
    split
    · rename_i q
      have := h9 (sp + ((j : Int) - dp)) (by omega) (by omega)
      exact jok_i.mpr ⟨by omega, by omega⟩
    · exact b5 j hj
  have hLo : jLo G s (locs ++ ((arrV (gA G 1) (jN σ src).toNat (fun i => jv (jtag .byte, jF σ src i))).stretch (Int32.ofInt sp).toNatClampNeg (Int32.ofInt n).toNatClampNeg).zipIdx.map fun q => ⟨dst.toNat, (Int32.ofInt dp).toNatClampNeg + q.2⟩) H' := by
    obtain ⟨g1, g2, g3⟩ := hL
    refine ⟨fun q hq => ?_, by omega, by omega⟩
    rcases List.mem_append.mp hq with h4 | h4
    · exact g1 q h4
    · obtain ⟨z, -, hz⟩ := List.mem_map.mp h4
      rw [← hz]; exact hb0
  have h := kk H' _ la hR' hLo hst hl ha
  rw [e2, hsum] at h
  obtain ⟨t, a1, b1⟩ := h _ (by rw [← hH', ← hT]; rfl) X'
  exact ⟨t, step t a1, b1⟩
theorem jr_cln (C : jC G X cc own nL ret d nm) {a : Int} {index : Nat} (w1 : Cond.methodLink own index ⟨"[B", "clone", "()Ljava/lang/Object;"⟩ ∈ lw_all) (w2 : Cond.sameMethod "[B" "java/lang/Object" "clone" "()Ljava/lang/Object;" ∈ lw_all) (w3 : Cond.native ⟨"java/lang/Object", "clone", "()Ljava/lang/Object;"⟩ ∈ lw_all) (w4 : Cond.instanceMethod ⟨"java/lang/Object", "clone", "()Ljava/lang/Object;"⟩ ∈ lw_all) (w5 : Cond.selects "[B" ⟨"[B", "clone", "()Ljava/lang/Object;"⟩ ⟨"java/lang/Object", "clone", "()Ljava/lang/Object;"⟩ ∈ lw_all) (w6 : Cond.castable "[B" "java/lang/Cloneable" ∈ lw_tbl) (hd1 : 1 ≤ d) (hd : decode cc pc = .ok (.invokevirtual index, 3)) (hWt : jwords st ≤ 13)
    (h : 0 ≤ a ∧ (jK σ a = 1001 ∨ jK σ a = 4001) ∧ jn σ + 1 ≤ jlN σ ∧ ju σ + jN σ a ≤ jlU σ ∧ jbyt σ a 0 (jN σ a)) (kk : jWP G X nL (pc + 3) ls ((2, jn σ) :: st) (jmk σ 1001 (jN σ a) (jF σ a) (jN σ a)) σ' r) : jWP G X nL pc ls ((2, a) :: st) σ σ' r := by
  obtain ⟨p, l, e, R, s, m, args, below, meth, c⟩ := X
  intro H locs la hR hL hs hl ha
  rw [jall_cons] at hs
  obtain ⟨h0, h2, h3, h4, h9⟩ := h
  obtain ⟨C1, C2, C3, C4, C5, C6, C7, ⟨C81, C82, C83, C84⟩, C9, C10, C11, C12⟩ := C
  have hst := hs.2
  have z1 := hR.1
  have z2 := hR.2.1
  have z3 := hR.2.2.2.2.1
  have z4 := hR.2.2.2.2.2.1
  have hL2 := hL.2.1
  have hL3 := hL.2.2
  obtain ⟨n0, n1, a4, a5, b1, b2⟩ := jarrE (t := 1) (ty := .byte) hR h0 h2 (by omega) rfl
  obtain ⟨q1, k0, hk0, cm0, hkk0⟩ := b1 (jN σ a).toNat (fun i => jv (jtag .byte, jF σ a i))
  obtain ⟨c0, t0', f1, f2, f3⟩ := Cond.castable_spec (va_Nw.use (A := args) rfl (hR.2.2.2.2.2.2.2.2.1 _ w6 rfl))
  have hnm := va_nm_byte b2
  cases hnm.symm.trans f1
  simp only [List.map_cons, jv_r h0]
  intro T hT X
  obtain ⟨k0', hk0', he0⟩ := X.warmed.alike.2.2 _ _ hk0
  obtain ⟨vm', X', step⟩ := X.cloneArray C1 C4 (C5 _ w1) (C5 _ w2) (C5 _ w3) (C5 _ w4) (C5 _ w5) (a := a.toNat) (cell := arrV (gA G 1) (jN σ a).toNat (fun i => jv (jtag .byte, jF σ a i))) (by rw [hT]; exact a4) (fun k h => by cases h) (fun h => by cases h) hnm f2 f3
    (fun i v hv => by
      by_cases hi : i < (jN σ a).toNat
      · rw [arrV_read _ _ hi] at hv
        cases hv
        have hb := jfitb (h9 i (by omega) (by omega))
        obtain ⟨-, k2, hk2, cm2, hkk2⟩ := State.isArrayOf_alike X.warmed.alike (b1 0 (fun _ => .null))
        have hk2 : T.vm.classes[gA G 1]? = some k2 := hk2
        show T.fitsSlot (gA G 1) .none i (jv (0, jF σ a i)) = true
        simpa [State.fitsSlot, State.slotType?, hk2, hkk2] using hb
      · rw [Array.getElem?_eq_none (by rw [arrV_size]; omega)] at hv
        cases hv)
    (g := F0 m pc la (.ref a.toNat :: st.map jv)) rfl (by rw [C3]; exact ha.1) (rest := st.map jv) rfl (by rw [C2]; exact hd) (by omega) (by
      show 2 * 0 + _ + _ ≤ _
      rw [jwords_cat hst]
      omega) (by omega) (by rw [arrV_size]; omega) (hloader := Vm.clonesLoader_of_array hk0 hkk0)
  have hcE : ({ cls := (arrV (gA G 1) (jN σ a).toNat (fun i => jv (jtag .byte, jF σ a i))).cls, slots := (arrV (gA G 1) (jN σ a).toNat (fun i => jv (jtag .byte, jF σ a i))).slots } : Cell) = arrV (gA G 1) (jN σ a).toNat (fun i => jv (jtag .byte, jF σ a i)) := rfl
  rw [hcE] at X' step
  generalize hH' : H.push (arrV (gA G 1) (jN σ a).toNat (fun i => jv (jtag .byte, jF σ a i))) = H' at *
  have e1 : H'[H.size]? = some (arrV (gA G 1) (jN σ a).toNat (fun i => jv (jtag .byte, jF σ a i))) := by rw [← hH']; simp
  have e2 : H'.size = H.size + 1 := by rw [← hH']; simp
  have e3 : ∀ q : Nat, q < H.size → H'[q]? = H[q]? := fun q hq => by rw [← hH', Array.getElem?_push, if_neg (by omega)]
  have hsum := jsum_push e2 e1 e3
  rw [arrV_size] at hsum X'
  have hR' := jRel.mk (k := 1001) (nn := jN σ a) (f := jF σ a) hR e1 e2 e3 (by omega) (by rw [arrV_size]; omega) (jcell.mk ⟨fun _ q => by omega, fun _ _ => ⟨.byte, rfl, n0, n1, e1, a5⟩, fun q _ => by omega⟩ (by omega) (by have := hR.2.2.2.1; omega))
  rw [arrV_size, jcast n0] at hR'
  have h := kk H' locs la hR' ⟨hL.1, by omega, by omega⟩ (jall_cons.mpr ⟨jok_r.mpr (by omega), hst⟩) hl ha
  rw [e2, hsum, List.map_cons, jv_r (by omega), show H.size + 1 - s.heap.size = (H.size - s.heap.size) + 1 by omega, show jsum H + (jN σ a).toNat - jsum s.heap = (jsum H - jsum s.heap) + (jN σ a).toNat by omega, ← z1, Int.toNat_natCast] at h
  obtain ⟨t, a1, b1⟩ := h _ (by rw [← hH', ← hT]; rfl) X'
  refine ⟨t, step t ?_, b1⟩
  rw [hT]; exact a1
end jNat
/-! steps -/
def jsAC : jStp := fun _ _ kn _ _ st σ => match st with
  | (0, n) :: (0, dp) :: (td, dst) :: (0, sp) :: (ts, src) :: s => if jrt td && jrt ts && Nat.ble (jwords s) 13 then (jacp σ src sp dst dp n).bind fun σ1 => kn s σ1 else none
  | _ => none
def jsCN : jStp := fun _ _ kn _ _ st σ => match st with
  | (ta, a) :: s => if jrt ta && Nat.ble (jwords s) 13 then (jcln σ a).bind fun q => kn ((2, q.2) :: s) q.1 else none
  | _ => none
/-- one of some kinds -/
def jkk {α : Type} (σ : jS) (L : List Int) (a : Int) (x : Option α) : Option α := if 0 ≤ a ∧ jK σ a ∈ L then x else none
def jsCC (L : List Int) : jStp := fun _ _ kn _ _ st σ => match st with
  | (ta, a) :: s => if jrt ta then jkk σ L a (kn ((ta, a) :: s) σ) else none
  | _ => none
/-- instanceof: kinds that are, kinds that aren't -/
def jio (σ : jS) (Y N : List Int) (a : Int) : Option Int := if a < 0 then some 0 else if jK σ a ∈ Y then some 1 else if jK σ a ∈ N then some 0 else none
def jsIO (Y N : List Int) : jStp := fun _ _ kn _ _ st σ => match st with
  | (ta, a) :: s => if jrt ta then (jio σ Y N a).bind fun v => kn ((0, v) :: s) σ else none
  | _ => none
theorem jEx_cpy {σ : jS} {src sp dst dp n : Int} (hd : jK σ dst = 1001) : jEx σ (jcpy σ src sp dst dp n) := by
  refine ⟨Int.le_refl _, fun a h0 h1 => ⟨rfl, rfl, fun k hk => ?_⟩⟩
  rw [jF_cpy hd]
  by_cases h : a = dst
  · subst h
    rw [hd] at hk
    exact absurd hk (by unfold jSs; rw [if_neg (by decide)]; decide)
  · rw [if_neg (fun q => h q.1)]
variable {G : jG} {l : Launch} {own nm : String} {d i : Nat} {wr ty : Bool} {Hs : jHs}
theorem jacp_b {α : Type} {σ : jS} {src sp dst dp n : Int} {f : jS → Option α} {q : α} (h : (jacp σ src sp dst dp n).bind f = some q) : (0 ≤ src ∧ 0 ≤ dst ∧ (jK σ src = 1001 ∨ jK σ src = 4001) ∧ jK σ dst = 1001 ∧ 0 ≤ sp ∧ 0 ≤ dp ∧ 0 ≤ n ∧ sp + n ≤ jN σ src ∧ dp + n ≤ jN σ dst ∧ jbyt σ src sp (sp + n)) ∧ f (jcpy σ src sp dst dp n) = some q := by
  unfold jacp at h; split at h
  · rename_i g; exact ⟨g, h⟩
  · cases h
theorem jcln_b {α : Type} {σ : jS} {a : Int} {f : jS × Int → Option α} {q : α} (h : (jcln σ a).bind f = some q) : (0 ≤ a ∧ (jK σ a = 1001 ∨ jK σ a = 4001) ∧ jn σ + 1 ≤ jlN σ ∧ ju σ + jN σ a ≤ jlU σ ∧ jbyt σ a 0 (jN σ a)) ∧ f (jmk σ 1001 (jN σ a) (jF σ a) (jN σ a), jn σ) = some q := by
  unfold jcln at h; split at h
  · rename_i g; exact ⟨g, h⟩
  · cases h
theorem jsAC_st {R : Type} {mk : jS → jT → Option R} {kn : List jT → jS → Option R} {kj : Nat → List jT → jS → Option R} {pc : Nat} {st : List jT} {σ : jS} {x : R} {P : Prop} (h : jsAC R mk kn kj pc st σ = some x)
    (hP : ∀ n dp td dst sp ts src s, st = (0, n) :: (0, dp) :: (td, dst) :: (0, sp) :: (ts, src) :: s → jrt td = true → jrt ts = true → jwords s ≤ 13 → (0 ≤ src ∧ 0 ≤ dst ∧ (jK σ src = 1001 ∨ jK σ src = 4001) ∧ jK σ dst = 1001 ∧ 0 ≤ sp ∧ 0 ≤ dp ∧ 0 ≤ n ∧ sp + n ≤ jN σ src ∧ dp + n ≤ jN σ dst ∧ jbyt σ src sp (sp + n)) → kn s (jcpy σ src sp dst dp n) = some x → P) : P := by
  unfold jsAC at h
  split at h
  · rename_i n dp td dst sp ts src s
    split at h
    · rename_i g
      rw [Bool.and_eq_true, Bool.and_eq_true] at g
      obtain ⟨g1, g2⟩ := jacp_b h
      exact hP n dp td dst sp ts src s rfl g.1.1 g.1.2 (Nat.le_of_ble_eq_true g.2) g1 g2
    · cases h
  · cases h
theorem jsAC_ok (w1 : Cond.methodLink own i arraycopyName ∈ lw_all) (w2 : Cond.native arraycopyName ∈ lw_all) (w3 : Cond.static arraycopyName ∈ lw_all) (w4 : Cond.initialized "java/lang/System" ∈ lw_all) (hd1 : 1 ≤ d) : jKOk G l own d nm true ty Hs (16 * i + 3, jsAC) := by
  refine ⟨?_, ?_⟩
  · intro I n hI X cc nL ret pc lr st σ σ' r R mk kn kj x C hH hXl hd hs h hkn hmk hkj
    obtain ⟨rfl, rfl⟩ := jk_invokestatic hI
    refine jsAC_st (mk := mk) (kn := kn) (kj := kj) (pc := pc) h fun n dp td dst sp ts src s est ht1 ht2 hwd hc hh => ?_
    subst est
    have hs' := (jst_c (jst_c (jst_c (jst_c (jst_c hs).2).2).2).2).2
    have k1 := hkn _ _ (fun e => nomatch e) (fun _ => jEx_cpy hc.2.2.2.1) (jst_e hs' fun _ => jEx_cpy hc.2.2.2.1) hh
    rw [jgs_c, jgs_c, jgs_c, jgs_c, jgs_c, jgm_rt ht1, jgm_rt ht2]
    exact jr_acp C w1 w2 w3 w4 hd1 hd (by rw [jwords_g]; exact hwd) hc k1
  · intro hty R mk kn kj pc st σ x P hs h hkn hmk hkj
    refine jsAC_st (mk := mk) (kn := kn) (kj := kj) (pc := pc) h fun n dp td dst sp ts src s est ht1 ht2 hwd hc hh => ?_
    subst est
    have hs' := (jst_c (jst_c (jst_c (jst_c (jst_c hs).2).2).2).2).2
    exact hkn _ _ (jEx_cpy hc.2.2.2.1) (fun e => nomatch e) (jst_e hs' fun _ => jEx_cpy hc.2.2.2.1) hh
theorem jsCN_ok (w1 : Cond.methodLink own i ⟨"[B", "clone", "()Ljava/lang/Object;"⟩ ∈ lw_all) (w2 : Cond.sameMethod "[B" "java/lang/Object" "clone" "()Ljava/lang/Object;" ∈ lw_all) (w3 : Cond.native ⟨"java/lang/Object", "clone", "()Ljava/lang/Object;"⟩ ∈ lw_all) (w4 : Cond.instanceMethod ⟨"java/lang/Object", "clone", "()Ljava/lang/Object;"⟩ ∈ lw_all) (w5 : Cond.selects "[B" ⟨"[B", "clone", "()Ljava/lang/Object;"⟩ ⟨"java/lang/Object", "clone", "()Ljava/lang/Object;"⟩ ∈ lw_all) (w6 : Cond.castable "[B" "java/lang/Cloneable" ∈ lw_tbl) (hd1 : 1 ≤ d) : jKOk G l own d nm true ty Hs (16 * i + 2, jsCN) := by
  refine ⟨?_, ?_⟩
  · intro I n hI X cc nL ret pc lr st σ σ' r R mk kn kj x C hH hXl hd hs h hkn hmk hkj
    obtain ⟨rfl, rfl⟩ := jk_invokevirtual hI
    dsimp only [jsCN] at h
    split at h
    · rename_i ta a s
      split at h
      · rename_i g
        rw [Bool.and_eq_true] at g
        obtain ⟨g1, g2⟩ := jcln_b h
        have k1 := hkn _ _ (fun e => nomatch e) (fun _ => jEx_mk) (jst_k (by show 2 < 16; decide) (jst_e (jst_c hs).2 fun _ => jEx_mk)) g2
        rw [jgs_c] at k1
        rw [jgs_c, jgm_rt g.1]
        exact jr_cln C w1 w2 w3 w4 w5 w6 hd1 hd (by rw [jwords_g]; exact Nat.le_of_ble_eq_true g.2) g1 k1
      · cases h
    · cases h
  · intro hty R mk kn kj pc st σ x P hs h hkn hmk hkj
    dsimp only [jsCN] at h
    split at h
    · rename_i ta a s
      split at h
      · rename_i g
        obtain ⟨g1, g2⟩ := jcln_b h
        exact hkn _ _ jEx_mk (fun e => nomatch e) (jst_k (by show 2 < 16; decide) (jst_e (jst_c hs).2 fun _ => jEx_mk)) g2
      · cases h
    · cases h
end
