/-! rules of arrays -/
section jArr
variable {G : jG} {X : jX} {cc : ByteArray} {own nm : String} {nL d pc : Nat} {ret : Option FieldType} {ls : List (Nat × jT)} {st : List jT} {σ σ' : jS} {r : jT}
theorem jclamp {i : Int} (h0 : 0 ≤ i) (h : jin i) : (Int32.ofInt i).toNatClampNeg = i.toNat := by
  show (Int32.ofInt i).toInt.toNat = i.toNat
  rw [jo_t h]
theorem jinb {i n : Int} (h0 : 0 ≤ i) (h1 : i < n) (h : jin i) : ¬ (Int32.ofInt i < 0 ∨ n.toNat ≤ (Int32.ofInt i).toNatClampNeg) := by
  rw [jclamp h0 h, jo_0, jo_lt h jin_0]
  omega
/-- what is known of an array -/
theorem jarr {s : State} {H : Heap} {a : Int} {t : Nat} {ty : FieldType} (hR : jRel G s σ H) (h0 : 0 ≤ a) (hK : jK σ a = 1000 + (t : Int)) (ht : t < 1000) (hty : jEt t = some ty) :
    0 ≤ jN σ a ∧ jN σ a ≤ 2147483647 ∧ H[a.toNat]? = some (arrV (gA G t) (jN σ a).toNat (fun i => jv (jtag ty, jF σ a i))) ∧ (∀ i : Nat, i < (jN σ a).toNat → jok (jtag ty, jF σ a i)) ∧ (∀ (n : Nat) (z : Nat → Value), s.isArrayOf (arrV (gA G t) n z) ty) ∧ va_RA s (gA G t) ty := by
  obtain ⟨t', a1, n0, n1, a4, a5⟩ := ((hR.2.2.1 a.toNat).n (by rw [jcast h0, hK]; omega)).2.1 (by rw [jcast h0, hK]; omega) (by rw [jcast h0, hK]; omega)
  simp only [jcast h0, hK] at a1 n0 n1 a4 a5
  rw [show (1000 + (t : Int) - 1000).toNat = t by omega] at a1 a4
  cases hty.symm.trans a1
  obtain ⟨b1, b2⟩ := hR.2.2.2.2.2.2.2.1 t _ hty
  exact ⟨n0, n1, a4, a5, b1, b2⟩
theorem jR_puta {s : State} {H H' : Heap} {a i v : Int} {t : Nat} {ty : FieldType} (hR : jRel G s σ H) (h0 : 0 ≤ a) (hK : jK σ a = 1000 + (t : Int)) (ht : t < 1000) (hty : jEt t = some ty) (hi0 : 0 ≤ i) (hi1 : i < jN σ a) (hv : jok (jtag ty, v))
    (e1 : H'[a.toNat]? = some ((arrV (gA G t) (jN σ a).toNat (fun i => jv (jtag ty, jF σ a i))).setSlot i.toNat (jv (jtag ty, v)))) (e2 : H'.size = H.size) (e3 : ∀ q : Nat, q ≠ a.toNat → H'[q]? = H[q]?) : jRel G s (jput σ a i v) H' := by
  obtain ⟨n0, n1, a4, a5, -, -⟩ := jarr hR h0 hK ht hty
  have h := jRel.put (k := i) (v := v) hR a4 e1 e2 e3 (jset_size _ _ _) ((hR.2.2.1 a.toNat).1 (by rw [jcast h0, hK]; omega) (by rw [jcast h0, hK]; omega)) ?_
  · rw [jcast h0] at h; exact h
  · rw [jcast h0, hK]
    refine jcell.mk ?_ (by omega) ((hR.2.2.1 a.toNat).1 (by rw [jcast h0, hK]; omega) (by rw [jcast h0, hK]; omega))
    refine ⟨fun _ q => by omega, fun _ _ => ⟨ty, by rw [show (1000 + (t : Int) - 1000).toNat = t by omega]; exact hty, n0, n1, ?_, fun j hj => ?_⟩, fun q _ => by omega⟩
    · rw [show (1000 + (t : Int) - 1000).toNat = t by omega, e1, arrV_store]
      congr 2
      funext j
      unfold updV
      by_cases h : j = i.toNat
      · subst h; simp [jcast hi0]
      · simp [h, show ¬ ((j : Int) = i) by omega]
    · by_cases h : (j : Int) = i
      · simpa [h] using hv
      · simpa [h] using a5 j hj
theorem jr_alen (C : jC G X cc own nL ret d nm) {a : Int} (t : Nat) {ty : FieldType} (ht : t < 1000) (hty : jEt t = some ty) (hd : decode cc pc = .ok (.arraylength, 1)) (h0 : 0 ≤ a) (hK : jK σ a = 1000 + (t : Int)) (kk : jWP G X nL (pc + 1) ls ((0, jN σ a) :: st) σ σ' r) : jWP G X nL pc ls ((2, a) :: st) σ σ' r := by
  obtain ⟨p, l, e, R, s, m, args, below, meth, c⟩ := X
  intro H locs la hR hL hs hl ha
  rw [jall_cons] at hs
  obtain ⟨n0, n1, a4, a5, b1, -⟩ := jarr hR h0 hK ht hty
  rw [List.map_cons, jv_r h0]
  refine W.alen C.1 C.2.1 a4 (b1 _ _) (n := Int32.ofInt (jN σ a)) ?_ rfl rfl hd (kk H locs la hR hL (jall_cons.mpr ⟨jok_i.mpr ⟨by omega, n1⟩, hs.2⟩) hl ha)
  rw [arrV_size]
  apply Int32.toInt_inj.mp
  rw [jo_t ⟨by omega, n1⟩]
  have h := nI_toInt (n := (jN σ a).toNat) (by omega)
  rw [jcast n0] at h
  exact h

/-- an array that may be an old one -/
theorem jarrE {s : State} {H : Heap} {a : Int} {t : Nat} {ty : FieldType} (hR : jRel G s σ H) (h0 : 0 ≤ a) (hK : jK σ a = 1000 + (t : Int) ∨ jK σ a = 3000 + (1000 + (t : Int))) (ht : t < 1000) (hty : jEt t = some ty) :
    0 ≤ jN σ a ∧ jN σ a ≤ 2147483647 ∧ H[a.toNat]? = some (arrV (gA G t) (jN σ a).toNat (fun i => jv (jtag ty, jF σ a i))) ∧ (∀ i : Nat, i < (jN σ a).toNat → jok (jtag ty, jF σ a i)) ∧ (∀ (n : Nat) (z : Nat → Value), s.isArrayOf (arrV (gA G t) n z) ty) ∧ va_RA s (gA G t) ty := by
  have hc := hR.2.2.1 a.toNat
  rw [jcast h0] at hc
  have key : jcell0 G (1000 + (t : Int)) (jN σ a) (jF σ a) H a.toNat := by
    rcases hK with hK | hK
    · rw [hK] at hc; exact hc.n (by omega)
    · rw [hK] at hc
      have := hc.r (by omega)
      rwa [show (3000 + (1000 + (t : Int)) - 3000) = 1000 + (t : Int) by omega] at this
  obtain ⟨t', a1, n0, n1, a4, a5⟩ := key.2.1 (by omega) (by omega)
  rw [show (1000 + (t : Int) - 1000).toNat = t by omega] at a1 a4
  cases hty.symm.trans a1
  obtain ⟨b1, b2⟩ := hR.2.2.2.2.2.2.2.1 t _ hty
  exact ⟨n0, n1, a4, a5, b1, b2⟩
theorem jr_alenE (C : jC G X cc own nL ret d nm) {a : Int} (t : Nat) {ty : FieldType} (ht : t < 1000) (hty : jEt t = some ty) (hd : decode cc pc = .ok (.arraylength, 1)) (h0 : 0 ≤ a) (hK : jK σ a = 1000 + (t : Int) ∨ jK σ a = 3000 + (1000 + (t : Int))) (kk : jWP G X nL (pc + 1) ls ((0, jN σ a) :: st) σ σ' r) : jWP G X nL pc ls ((2, a) :: st) σ σ' r := by
  obtain ⟨p, l, e, R, s, m, args, below, meth, c⟩ := X
  intro H locs la hR hL hs hl ha
  rw [jall_cons] at hs
  obtain ⟨n0, n1, a4, a5, b1, -⟩ := jarrE hR h0 hK ht hty
  rw [List.map_cons, jv_r h0]
  refine W.alen C.1 C.2.1 a4 (b1 _ _) (n := Int32.ofInt (jN σ a)) ?_ rfl rfl hd (kk H locs la hR hL (jall_cons.mpr ⟨jok_i.mpr ⟨by omega, n1⟩, hs.2⟩) hl ha)
  rw [arrV_size]
  apply Int32.toInt_inj.mp
  rw [jo_t ⟨by omega, n1⟩]
  have h := nI_toInt (n := (jN σ a).toNat) (by omega)
  rw [jcast n0] at h
  exact h

theorem jr_baldE (C : jC G X cc own nL ret d nm) {a i : Int} (hd : decode cc pc = .ok (.baload, 1)) (h0 : 0 ≤ a) (hK : jK σ a = 1001 ∨ jK σ a = 4001) (hi0 : 0 ≤ i) (hi1 : i < jN σ a) (kk : jWP G X nL (pc + 1) ls ((0, jF σ a i) :: st) σ σ' r) : jWP G X nL pc ls ((0, i) :: (2, a) :: st) σ σ' r := by
  obtain ⟨p, l, e, R, s, m, args, below, meth, c⟩ := X
  intro H locs la hR hL hs hl ha
  rw [jall_cons, jall_cons] at hs
  have hj := jok_i.mp hs.1
  obtain ⟨n0, n1, a4, a5, b1, -⟩ := jarrE (t := 1) (ty := .byte) hR h0 hK (by omega) rfl
  rw [List.map_cons, List.map_cons, jv_i, jv_r h0]
  have e1 := a5 i.toNat (by omega)
  have e2 : (arrV (gA G 1) (jN σ a).toNat (fun i => jv (jtag .byte, jF σ a i))).slots[(Int32.ofInt i).toNatClampNeg]? = some (jv (0, jF σ a i)) := by
    rw [jclamp hi0 hj, arrV_read _ _ (by omega), jcast hi0]; rfl
  rw [jcast hi0] at e1
  exact W.bald C.1 C.2.1 a4 (b1 _ _) (by simp [arrV]) (by rw [arrV_size]; exact jinb hi0 hi1 hj) e2 rfl rfl hd (kk H locs la hR hL (jall_cons.mpr ⟨e1, hs.2.2⟩) hl ha)
theorem jr_ialdE (C : jC G X cc own nL ret d nm) {a i : Int} (hd : decode cc pc = .ok (.iaload, 1)) (h0 : 0 ≤ a) (hK : jK σ a = 1000 ∨ jK σ a = 4000) (hi0 : 0 ≤ i) (hi1 : i < jN σ a) (kk : jWP G X nL (pc + 1) ls ((0, jF σ a i) :: st) σ σ' r) : jWP G X nL pc ls ((0, i) :: (2, a) :: st) σ σ' r := by
  obtain ⟨p, l, e, R, s, m, args, below, meth, c⟩ := X
  intro H locs la hR hL hs hl ha
  rw [jall_cons, jall_cons] at hs
  have hj := jok_i.mp hs.1
  obtain ⟨n0, n1, a4, a5, b1, -⟩ := jarrE (t := 0) (ty := .int) hR h0 hK (by omega) rfl
  rw [List.map_cons, List.map_cons, jv_i, jv_r h0]
  have e1 := a5 i.toNat (by omega)
  have e2 : (arrV (gA G 0) (jN σ a).toNat (fun i => jv (jtag .int, jF σ a i))).slots[(Int32.ofInt i).toNatClampNeg]? = some (jv (0, jF σ a i)) := by
    rw [jclamp hi0 hj, arrV_read _ _ (by omega), jcast hi0]; rfl
  rw [jcast hi0] at e1
  exact W.iald C.1 C.2.1 a4 (b1 _ _) (by simp [arrV]) (by rw [arrV_size]; exact jinb hi0 hi1 hj) e2 rfl rfl hd (kk H locs la hR hL (jall_cons.mpr ⟨e1, hs.2.2⟩) hl ha)
theorem jr_iald (C : jC G X cc own nL ret d nm) {a i : Int} (hd : decode cc pc = .ok (.iaload, 1)) (h0 : 0 ≤ a) (hK : jK σ a = 1000) (hi0 : 0 ≤ i) (hi1 : i < jN σ a) (kk : jWP G X nL (pc + 1) ls ((0, jF σ a i) :: st) σ σ' r) : jWP G X nL pc ls ((0, i) :: (2, a) :: st) σ σ' r := by
  obtain ⟨p, l, e, R, s, m, args, below, meth, c⟩ := X
  intro H locs la hR hL hs hl ha
  rw [jall_cons, jall_cons] at hs
  have hj := jok_i.mp hs.1
  obtain ⟨n0, n1, a4, a5, b1, -⟩ := jarr (t := 0) (ty := .int) hR h0 hK (by omega) rfl
  rw [List.map_cons, List.map_cons, jv_i, jv_r h0]
  have e1 := a5 i.toNat (by omega)
  have e2 : (arrV (gA G 0) (jN σ a).toNat (fun i => jv (jtag .int, jF σ a i))).slots[(Int32.ofInt i).toNatClampNeg]? = some (jv (0, jF σ a i)) := by
    rw [jclamp hi0 hj, arrV_read _ _ (by omega), jcast hi0]; rfl
  rw [jcast hi0] at e1
  exact W.iald C.1 C.2.1 a4 (b1 _ _) (by simp [arrV]) (by rw [arrV_size]; exact jinb hi0 hi1 hj) e2 rfl rfl hd (kk H locs la hR hL (jall_cons.mpr ⟨e1, hs.2.2⟩) hl ha)
theorem jr_bald (C : jC G X cc own nL ret d nm) {a i : Int} (hd : decode cc pc = .ok (.baload, 1)) (h0 : 0 ≤ a) (hK : jK σ a = 1001) (hi0 : 0 ≤ i) (hi1 : i < jN σ a) (kk : jWP G X nL (pc + 1) ls ((0, jF σ a i) :: st) σ σ' r) : jWP G X nL pc ls ((0, i) :: (2, a) :: st) σ σ' r := by
  obtain ⟨p, l, e, R, s, m, args, below, meth, c⟩ := X
  intro H locs la hR hL hs hl ha
  rw [jall_cons, jall_cons] at hs
  have hj := jok_i.mp hs.1
  obtain ⟨n0, n1, a4, a5, b1, -⟩ := jarr (t := 1) (ty := .byte) hR h0 hK (by omega) rfl
  rw [List.map_cons, List.map_cons, jv_i, jv_r h0]
  have e1 := a5 i.toNat (by omega)
  have e2 : (arrV (gA G 1) (jN σ a).toNat (fun i => jv (jtag .byte, jF σ a i))).slots[(Int32.ofInt i).toNatClampNeg]? = some (jv (0, jF σ a i)) := by
    rw [jclamp hi0 hj, arrV_read _ _ (by omega), jcast hi0]; rfl
  rw [jcast hi0] at e1
  exact W.bald C.1 C.2.1 a4 (b1 _ _) (by simp [arrV]) (by rw [arrV_size]; exact jinb hi0 hi1 hj) e2 rfl rfl hd (kk H locs la hR hL (jall_cons.mpr ⟨e1, hs.2.2⟩) hl ha)
theorem jr_zald (C : jC G X cc own nL ret d nm) {a i : Int} (hd : decode cc pc = .ok (.baload, 1)) (h0 : 0 ≤ a) (hK : jK σ a = 1002) (hi0 : 0 ≤ i) (hi1 : i < jN σ a) (kk : jWP G X nL (pc + 1) ls ((0, jF σ a i) :: st) σ σ' r) : jWP G X nL pc ls ((0, i) :: (2, a) :: st) σ σ' r := by
  obtain ⟨p, l, e, R, s, m, args, below, meth, c⟩ := X
  intro H locs la hR hL hs hl ha
  rw [jall_cons, jall_cons] at hs
  have hj := jok_i.mp hs.1
  obtain ⟨n0, n1, a4, a5, b1, -⟩ := jarr (t := 2) (ty := .boolean) hR h0 hK (by omega) rfl
  rw [List.map_cons, List.map_cons, jv_i, jv_r h0]
  have e1 := a5 i.toNat (by omega)
  have e2 : (arrV (gA G 2) (jN σ a).toNat (fun i => jv (jtag .boolean, jF σ a i))).slots[(Int32.ofInt i).toNatClampNeg]? = some (jv (0, jF σ a i)) := by
    rw [jclamp hi0 hj, arrV_read _ _ (by omega), jcast hi0]; rfl
  rw [jcast hi0] at e1
  exact W.zald C.1 C.2.1 a4 (b1 _ _) (by simp [arrV]) (by rw [arrV_size]; exact jinb hi0 hi1 hj) e2 rfl rfl hd (kk H locs la hR hL (jall_cons.mpr ⟨e1, hs.2.2⟩) hl ha)
theorem jr_sald (C : jC G X cc own nL ret d nm) {a i : Int} (hd : decode cc pc = .ok (.saload, 1)) (h0 : 0 ≤ a) (hK : jK σ a = 1003) (hi0 : 0 ≤ i) (hi1 : i < jN σ a) (kk : jWP G X nL (pc + 1) ls ((0, jF σ a i) :: st) σ σ' r) : jWP G X nL pc ls ((0, i) :: (2, a) :: st) σ σ' r := by
  obtain ⟨p, l, e, R, s, m, args, below, meth, c⟩ := X
  intro H locs la hR hL hs hl ha
  rw [jall_cons, jall_cons] at hs
  have hj := jok_i.mp hs.1
  obtain ⟨n0, n1, a4, a5, b1, -⟩ := jarr (t := 3) (ty := .short) hR h0 hK (by omega) rfl
  rw [List.map_cons, List.map_cons, jv_i, jv_r h0]
  have e1 := a5 i.toNat (by omega)
  have e2 : (arrV (gA G 3) (jN σ a).toNat (fun i => jv (jtag .short, jF σ a i))).slots[(Int32.ofInt i).toNatClampNeg]? = some (jv (0, jF σ a i)) := by
    rw [jclamp hi0 hj, arrV_read _ _ (by omega), jcast hi0]; rfl
  rw [jcast hi0] at e1
  exact W.sald C.1 C.2.1 a4 (b1 _ _) (by simp [arrV]) (by rw [arrV_size]; exact jinb hi0 hi1 hj) e2 rfl rfl hd (kk H locs la hR hL (jall_cons.mpr ⟨e1, hs.2.2⟩) hl ha)
theorem jr_lald (C : jC G X cc own nL ret d nm) {a i : Int} (hd : decode cc pc = .ok (.laload, 1)) (h0 : 0 ≤ a) (hK : jK σ a = 1004) (hi0 : 0 ≤ i) (hi1 : i < jN σ a) (kk : jWP G X nL (pc + 1) ls ((1, jF σ a i) :: st) σ σ' r) : jWP G X nL pc ls ((0, i) :: (2, a) :: st) σ σ' r := by
  obtain ⟨p, l, e, R, s, m, args, below, meth, c⟩ := X
  intro H locs la hR hL hs hl ha
  rw [jall_cons, jall_cons] at hs
  have hj := jok_i.mp hs.1
  obtain ⟨n0, n1, a4, a5, b1, -⟩ := jarr (t := 4) (ty := .long) hR h0 hK (by omega) rfl
  rw [List.map_cons, List.map_cons, jv_i, jv_r h0]
  have e1 := a5 i.toNat (by omega)
  have e2 : (arrV (gA G 4) (jN σ a).toNat (fun i => jv (jtag .long, jF σ a i))).slots[(Int32.ofInt i).toNatClampNeg]? = some (jv (1, jF σ a i)) := by
    rw [jclamp hi0 hj, arrV_read _ _ (by omega), jcast hi0]; rfl
  rw [jcast hi0] at e1
  exact W.lald C.1 C.2.1 a4 (b1 _ _) (by simp [arrV]) (by rw [arrV_size]; exact jinb hi0 hi1 hj) e2 rfl rfl hd (kk H locs la hR hL (jall_cons.mpr ⟨e1, hs.2.2⟩) hl ha)
theorem jr_cald (C : jC G X cc own nL ret d nm) {a i : Int} (hd : decode cc pc = .ok (.caload, 1)) (h0 : 0 ≤ a) (hK : jK σ a = 1005) (hi0 : 0 ≤ i) (hi1 : i < jN σ a) (kk : jWP G X nL (pc + 1) ls ((0, jF σ a i) :: st) σ σ' r) : jWP G X nL pc ls ((0, i) :: (2, a) :: st) σ σ' r := by
  obtain ⟨p, l, e, R, s, m, args, below, meth, c⟩ := X
  intro H locs la hR hL hs hl ha
  rw [jall_cons, jall_cons] at hs
  have hj := jok_i.mp hs.1
  obtain ⟨n0, n1, a4, a5, b1, -⟩ := jarr (t := 5) (ty := .char) hR h0 hK (by omega) rfl
  rw [List.map_cons, List.map_cons, jv_i, jv_r h0]
  have e1 := a5 i.toNat (by omega)
  have e2 : (arrV (gA G 5) (jN σ a).toNat (fun i => jv (jtag .char, jF σ a i))).slots[(Int32.ofInt i).toNatClampNeg]? = some (jv (0, jF σ a i)) := by
    rw [jclamp hi0 hj, arrV_read _ _ (by omega), jcast hi0]; rfl
  rw [jcast hi0] at e1
  exact W.cald C.1 C.2.1 a4 (b1 _ _) (by simp [arrV]) (by rw [arrV_size]; exact jinb hi0 hi1 hj) e2 rfl rfl hd (kk H locs la hR hL (jall_cons.mpr ⟨e1, hs.2.2⟩) hl ha)
def wz (x : Int) : Int := (Int32.ofInt x &&& 1).toInt
theorem jr_iast (C : jC G X cc own nL ret d nm) {a i x : Int} (hd : decode cc pc = .ok (.iastore, 1)) (h0 : 0 ≤ a) (hK : jK σ a = 1000) (hi0 : 0 ≤ i) (hi1 : i < jN σ a) (kk : jWP G X nL (pc + 1) ls st (jput σ a i (x)) σ' r) : jWP G X nL pc ls ((0, x) :: (0, i) :: (2, a) :: st) σ σ' r := by
  obtain ⟨p, l, e, R, s, m, args, below, meth, c⟩ := X
  intro H locs la hR hL hs hl ha
  rw [jall_cons, jall_cons, jall_cons] at hs
  have hb0 := (hR.2.2.1 a.toNat).1 (by rw [jcast h0, hK]; omega) (by rw [jcast h0, hK]; omega)
  have hj := jok_i.mp hs.2.1
  obtain ⟨n0, n1, a4, a5, b1, -⟩ := jarr (t := 0) (ty := .int) hR h0 hK (by omega) rfl
  rw [List.map_cons, List.map_cons, List.map_cons, jv_i, jv_r h0]
  refine W.iast C.1 C.2.1 a4 (b1 _ _) (by simp [arrV]) (by rw [arrV_size]; exact jinb hi0 hi1 hj) rfl rfl hd fun H' e1 e2 e3 => ?_
  rw [jclamp hi0 hj] at e1 ⊢
  have e1 : H'[a.toNat]? = some ((arrV (gA G 0) (jN σ a).toNat (fun i => jv (jtag .int, jF σ a i))).setSlot i.toNat (jv (jtag .int, x))) := by
    rw [e1]; rfl
  have hR' := jR_puta (t := 0) (ty := .int) hR h0 hK (by omega) rfl hi0 hi1 hs.1 e1 e2 e3
  have hsum := jsum_set a4 e2 e1 e3 (jset_size _ _ _)
  have h := kk H' _ la hR' (jlocs (a := a.toNat) (i := i.toNat) hL hb0 e2 hsum) hs.2.2.2 hl ha
  rw [e2, hsum] at h
  exact h
theorem jr_bast (C : jC G X cc own nL ret d nm) {a i x : Int} (hd : decode cc pc = .ok (.bastore, 1)) (h0 : 0 ≤ a) (hK : jK σ a = 1001) (hi0 : 0 ≤ i) (hi1 : i < jN σ a) (kk : jWP G X nL (pc + 1) ls st (jput σ a i (w8 x)) σ' r) : jWP G X nL pc ls ((0, x) :: (0, i) :: (2, a) :: st) σ σ' r := by
  obtain ⟨p, l, e, R, s, m, args, below, meth, c⟩ := X
  intro H locs la hR hL hs hl ha
  rw [jall_cons, jall_cons, jall_cons] at hs
  have hb0 := (hR.2.2.1 a.toNat).1 (by rw [jcast h0, hK]; omega) (by rw [jcast h0, hK]; omega)
  have hj := jok_i.mp hs.2.1
  obtain ⟨n0, n1, a4, a5, b1, -⟩ := jarr (t := 1) (ty := .byte) hR h0 hK (by omega) rfl
  rw [List.map_cons, List.map_cons, List.map_cons, jv_i, jv_r h0]
  refine W.bast C.1 C.2.1 a4 (b1 _ _) (by simp [arrV]) (by rw [arrV_size]; exact jinb hi0 hi1 hj) rfl rfl hd fun H' e1 e2 e3 => ?_
  rw [jclamp hi0 hj] at e1 ⊢
  have e1 : H'[a.toNat]? = some ((arrV (gA G 1) (jN σ a).toNat (fun i => jv (jtag .byte, jF σ a i))).setSlot i.toNat (jv (jtag .byte, w8 x))) := by
    rw [e1]; rw [narrow_byte]; show _ = some (Cell.setSlot _ _ (.int (Int32.ofInt (w8 x)))); rw [w8, jo_i]
  have hR' := jR_puta (t := 1) (ty := .byte) hR h0 hK (by omega) rfl hi0 hi1 (jok_i.mpr (jin_t _)) e1 e2 e3
  have hsum := jsum_set a4 e2 e1 e3 (jset_size _ _ _)
  have h := kk H' _ la hR' (jlocs (a := a.toNat) (i := i.toNat) hL hb0 e2 hsum) hs.2.2.2 hl ha
  rw [e2, hsum] at h
  exact h
theorem jr_zast (C : jC G X cc own nL ret d nm) {a i x : Int} (hd : decode cc pc = .ok (.bastore, 1)) (h0 : 0 ≤ a) (hK : jK σ a = 1002) (hi0 : 0 ≤ i) (hi1 : i < jN σ a) (kk : jWP G X nL (pc + 1) ls st (jput σ a i (wz x)) σ' r) : jWP G X nL pc ls ((0, x) :: (0, i) :: (2, a) :: st) σ σ' r := by
  obtain ⟨p, l, e, R, s, m, args, below, meth, c⟩ := X
  intro H locs la hR hL hs hl ha
  rw [jall_cons, jall_cons, jall_cons] at hs
  have hb0 := (hR.2.2.1 a.toNat).1 (by rw [jcast h0, hK]; omega) (by rw [jcast h0, hK]; omega)
  have hj := jok_i.mp hs.2.1
  obtain ⟨n0, n1, a4, a5, b1, -⟩ := jarr (t := 2) (ty := .boolean) hR h0 hK (by omega) rfl
  rw [List.map_cons, List.map_cons, List.map_cons, jv_i, jv_r h0]
  refine W.zast C.1 C.2.1 a4 (b1 _ _) (by simp [arrV]) (by rw [arrV_size]; exact jinb hi0 hi1 hj) rfl rfl hd fun H' e1 e2 e3 => ?_
  rw [jclamp hi0 hj] at e1 ⊢
  have e1 : H'[a.toNat]? = some ((arrV (gA G 2) (jN σ a).toNat (fun i => jv (jtag .boolean, jF σ a i))).setSlot i.toNat (jv (jtag .boolean, wz x))) := by
    rw [e1]; show _ = some (Cell.setSlot _ _ (.int (Int32.ofInt (wz x)))); rw [wz, jo_i]; rfl
  have hR' := jR_puta (t := 2) (ty := .boolean) hR h0 hK (by omega) rfl hi0 hi1 (jok_i.mpr (jin_t _)) e1 e2 e3
  have hsum := jsum_set a4 e2 e1 e3 (jset_size _ _ _)
  have h := kk H' _ la hR' (jlocs (a := a.toNat) (i := i.toNat) hL hb0 e2 hsum) hs.2.2.2 hl ha
  rw [e2, hsum] at h
  exact h
theorem jr_sast (C : jC G X cc own nL ret d nm) {a i x : Int} (hd : decode cc pc = .ok (.sastore, 1)) (h0 : 0 ≤ a) (hK : jK σ a = 1003) (hi0 : 0 ≤ i) (hi1 : i < jN σ a) (kk : jWP G X nL (pc + 1) ls st (jput σ a i (w16 x)) σ' r) : jWP G X nL pc ls ((0, x) :: (0, i) :: (2, a) :: st) σ σ' r := by
  obtain ⟨p, l, e, R, s, m, args, below, meth, c⟩ := X
  intro H locs la hR hL hs hl ha
  rw [jall_cons, jall_cons, jall_cons] at hs
  have hb0 := (hR.2.2.1 a.toNat).1 (by rw [jcast h0, hK]; omega) (by rw [jcast h0, hK]; omega)
  have hj := jok_i.mp hs.2.1
  obtain ⟨n0, n1, a4, a5, b1, -⟩ := jarr (t := 3) (ty := .short) hR h0 hK (by omega) rfl
  rw [List.map_cons, List.map_cons, List.map_cons, jv_i, jv_r h0]
  refine W.sast C.1 C.2.1 a4 (b1 _ _) (by simp [arrV]) (by rw [arrV_size]; exact jinb hi0 hi1 hj) rfl rfl hd fun H' e1 e2 e3 => ?_
  rw [jclamp hi0 hj] at e1 ⊢
  have e1 : H'[a.toNat]? = some ((arrV (gA G 3) (jN σ a).toNat (fun i => jv (jtag .short, jF σ a i))).setSlot i.toNat (jv (jtag .short, w16 x))) := by
    rw [e1]; rw [narrow_short]; show _ = some (Cell.setSlot _ _ (.int (Int32.ofInt (w16 x)))); rw [w16, jo_i]
  have hR' := jR_puta (t := 3) (ty := .short) hR h0 hK (by omega) rfl hi0 hi1 (jok_i.mpr (jin_t _)) e1 e2 e3
  have hsum := jsum_set a4 e2 e1 e3 (jset_size _ _ _)
  have h := kk H' _ la hR' (jlocs (a := a.toNat) (i := i.toNat) hL hb0 e2 hsum) hs.2.2.2 hl ha
  rw [e2, hsum] at h
  exact h
theorem jr_last (C : jC G X cc own nL ret d nm) {a i x : Int} (hd : decode cc pc = .ok (.lastore, 1)) (h0 : 0 ≤ a) (hK : jK σ a = 1004) (hi0 : 0 ≤ i) (hi1 : i < jN σ a) (kk : jWP G X nL (pc + 1) ls st (jput σ a i (x)) σ' r) : jWP G X nL pc ls ((1, x) :: (0, i) :: (2, a) :: st) σ σ' r := by
  obtain ⟨p, l, e, R, s, m, args, below, meth, c⟩ := X
  intro H locs la hR hL hs hl ha
  rw [jall_cons, jall_cons, jall_cons] at hs
  have hb0 := (hR.2.2.1 a.toNat).1 (by rw [jcast h0, hK]; omega) (by rw [jcast h0, hK]; omega)
  have hj := jok_i.mp hs.2.1
  obtain ⟨n0, n1, a4, a5, b1, -⟩ := jarr (t := 4) (ty := .long) hR h0 hK (by omega) rfl
  rw [List.map_cons, List.map_cons, List.map_cons, jv_i, jv_r h0]
  refine W.last C.1 C.2.1 a4 (b1 _ _) (by simp [arrV]) (by rw [arrV_size]; exact jinb hi0 hi1 hj) rfl rfl hd fun H' e1 e2 e3 => ?_
  rw [jclamp hi0 hj] at e1 ⊢
  have e1 : H'[a.toNat]? = some ((arrV (gA G 4) (jN σ a).toNat (fun i => jv (jtag .long, jF σ a i))).setSlot i.toNat (jv (jtag .long, x))) := by
    rw [e1]; rfl
  have hR' := jR_puta (t := 4) (ty := .long) hR h0 hK (by omega) rfl hi0 hi1 hs.1 e1 e2 e3
  have hsum := jsum_set a4 e2 e1 e3 (jset_size _ _ _)
  have h := kk H' _ la hR' (jlocs (a := a.toNat) (i := i.toNat) hL hb0 e2 hsum) hs.2.2.2 hl ha
  rw [e2, hsum] at h
  exact h
end jArr
