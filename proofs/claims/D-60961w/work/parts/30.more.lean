/-! string constants and statics on the stack -/
section jMore
variable {G : jG} {X : jX} {cc : ByteArray} {own nm : String} {nL d pc : Nat} {ret : Option FieldType} {ls : List (Nat × jT)} {st : List jT} {σ σ' : jS} {r : jT}
theorem jr_ldcS (C : jC G X cc own nL ret d nm) {i ix : Nat} {tx : String} (hq : jCs[i]? = some (own, ix, tx)) (hd : decode cc pc = .ok (.ldc ix, 2)) (k : jWP G X nL (pc + 2) ls ((2, jc σ i) :: st) σ σ' r) : jWP G X nL pc ls st σ σ' r := by
  obtain ⟨p, l, e, R, s, m, args, below, meth, c⟩ := X
  intro H locs la hR hL hs hl ha
  obtain ⟨hc, hC, -⟩ := hR.2.2.2.2.2.1.2.2
  obtain ⟨h1, h2⟩ := hC i _ hq
  refine va_ldcS C.1 C.2.1 C.2.2.2.1 h1 hd ?_
  have h := k H locs la hR hL (jall_cons.mpr ⟨jok_r.mpr (by rw [hc]; omega), hs⟩) hl ha
  rw [List.map_cons, hc, jv_r h2] at h
  exact h
theorem jr_ldcSW (C : jC G X cc own nL ret d nm) {i ix : Nat} {tx : String} (hq : jCs[i]? = some (own, ix, tx)) (hd : decode cc pc = .ok (.ldc_w ix, 3)) (k : jWP G X nL (pc + 3) ls ((2, jc σ i) :: st) σ σ' r) : jWP G X nL pc ls st σ σ' r := by
  obtain ⟨p, l, e, R, s, m, args, below, meth, c⟩ := X
  intro H locs la hR hL hs hl ha
  obtain ⟨hc, hC, -⟩ := hR.2.2.2.2.2.1.2.2
  obtain ⟨h1, h2⟩ := hC i _ hq
  have h := k H locs la hR hL (jall_cons.mpr ⟨jok_r.mpr (by rw [hc]; omega), hs⟩) hl ha
  rw [List.map_cons, hc, jv_r h2] at h
  obtain ⟨C1, C2, C3, C4, C5⟩ := C
  intro T hT X
  obtain ⟨t, a1, b1⟩ := h T hT X
  exact ⟨t, X.ldcStringW C1 C4 (text := tx) (a := (gC G i).toNat) h1.1 h1.2 (g := F0 m pc la (st.map jv)) rfl (by rw [C2]; exact hd) t a1, b1⟩
/-- what a static holds -/
def jsx (σ : jS) (t : Nat) (x : Int) : jT := if t = 2 then (2, jc σ x) else (0, x)
theorem jr_gets (C : jC G X cc own nL ret d nm) {ix t : Nat} {cl n ds : String} {x : Int} (hq : (cl, n, ds, t, x) ∈ jSt) (hw : Cond.fieldLink own ix cl n ds ∈ lw_all) (hd : decode cc pc = .ok (.getstatic ix, 3)) (k : jWP G X nL (pc + 3) ls (jsx σ t x :: st) σ σ' r) : jWP G X nL pc ls st σ σ' r := by
  obtain ⟨p, l, e, R, s, m, args, below, meth, c⟩ := X
  intro H locs la hR hL hs hl ha
  obtain ⟨hc, -, hS⟩ := hR.2.2.2.2.2.1.2.2
  obtain ⟨h1, h2⟩ := hS _ hq
  have e : jsx σ t x = jsv G t x := by unfold jsx jsv; rw [hc]
  have h := k H locs la hR hL (jall_cons.mpr ⟨by rw [e]; exact h2, hs⟩) hl ha
  rw [List.map_cons, e] at h
  obtain ⟨C1, C2, C3, C4, C5⟩ := C
  obtain ⟨c', k', i', f, a, cell, g0, g1, g2, g3, g4, g5, g6, g7, g8, g9, g10, g11⟩ := h1
  exact W.gets C1 C2 C4 (C5.1 _ hw) g1 g2 g3 g4 g5 (fun e => by rw [e] at g6; cases g6) g10 rfl hd h
end jMore
/-! steps: string constants, statics -/
noncomputable section
def jsS (i : Int) : jStp := fun _ _ kn _ _ st σ => kn ((2, jc σ i) :: st) σ
variable {G : jG} {l : Launch} {own nm : String} {d : Nat} {wr ty : Bool} {Hs : jHs} {i : Nat}
theorem jsS_2 {z : Int} : jSt2 wr ty (jsS z) := by
  intro hty R mk kn kj pc st σ x P hs h hkn hmk hkj
  exact hkn _ _ jEx.rfl (fun _ => rfl) (jst_k (by show 2 < 16; decide) hs) h
theorem jsLdcS_ok {j : Nat} {tx : String} {z : Int} (hq : jCs[j]? = some (own, i, tx)) (hz : (j : Int) = z) : jKOk G l own d nm wr ty Hs (16 * i + 7, jsS z) := by
  refine ⟨?_, jsS_2⟩
  intro I n hI X cc nL ret pc lr st σ σ' r R mk kn kj x C hH hXl hd hs h hkn hmk hkj
  obtain ⟨rfl, rfl⟩ := jk_ldc hI
  subst hz
  exact jr_ldcS C hq hd (hkn _ _ (fun _ => rfl) (fun _ => jEx.rfl) (jst_k (by simp) hs) h)
theorem jsLdcSW_ok {j : Nat} {tx : String} {z : Int} (hq : jCs[j]? = some (own, i, tx)) (hz : (j : Int) = z) : jKOk G l own d nm wr ty Hs (16 * i + 8, jsS z) := by
  refine ⟨?_, jsS_2⟩
  intro I n hI X cc nL ret pc lr st σ σ' r R mk kn kj x C hH hXl hd hs h hkn hmk hkj
  obtain ⟨rfl, rfl⟩ := jk_ldc_w hI
  subst hz
  exact jr_ldcSW C hq hd (hkn _ _ (fun _ => rfl) (fun _ => jEx.rfl) (jst_k (by simp) hs) h)
theorem jsGetI_ok {cl n ds : String} {x : Int} (hq : (cl, n, ds, 0, x) ∈ jSt) (hw : Cond.fieldLink own i cl n ds ∈ lw_all) : jKOk G l own d nm wr ty Hs (16 * i + 12, jsK 0 x) := by
  refine ⟨?_, jsK_2 (by decide)⟩
  intro I n hI X cc nL ret pc lr st σ σ' r R mk kn kj x C hH hXl hd hs h hkn hmk hkj
  obtain ⟨rfl, rfl⟩ := jk_getstatic hI
  exact jr_gets C hq hw hd (hkn _ _ (fun _ => rfl) (fun _ => jEx.rfl) (jst_k (by simp) hs) h)
theorem jsGetR_ok {cl n ds : String} {x : Int} (hq : (cl, n, ds, 2, x) ∈ jSt) (hw : Cond.fieldLink own i cl n ds ∈ lw_all) : jKOk G l own d nm wr ty Hs (16 * i + 12, jsS x) := by
  refine ⟨?_, jsS_2⟩
  intro I n hI X cc nL ret pc lr st σ σ' r R mk kn kj x C hH hXl hd hs h hkn hmk hkj
  obtain ⟨rfl, rfl⟩ := jk_getstatic hI
  exact jr_gets C hq hw hd (hkn _ _ (fun _ => rfl) (fun _ => jEx.rfl) (jst_k (by simp) hs) h)
end
