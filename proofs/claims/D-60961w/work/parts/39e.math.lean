/-! Math.max, Math.min -/
section jMath
variable {G : jG} {X : jX} {l : Launch} {cc : ByteArray} {own nm : String} {nL d pc : Nat} {ret : Option FieldType} {ls : List (Nat × jT)} {st : List jT} {σ σ' : jS} {r : jT}
def jmx (x y : Int) : Int := if x < y then y else x
def jmi (x y : Int) : Int := if y < x then y else x
theorem jr_mmax (C : jC G X cc own nL ret d nm) {x y : Int} {index : Nat} (w1 : Cond.methodLink own index Lib.Math.max.name ∈ lw_all) (w2 : Cond.static Lib.Math.max.name ∈ lw_all) (w3 : Cond.initialized "java/lang/Math" ∈ lw_all) (w4 : Cond.code Lib.Math.max.name Lib.Math.max.code 2 (some .int) ∈ lw_all) (hd1 : 1 ≤ d) (hWt : jwords st ≤ 33) (hd : decode cc pc = .ok (.invokestatic index, 3))
    (kk : jWP G X nL (pc + 3) ls ((0, jmx x y) :: st) σ σ' r) : jWP G X nL pc ls ((0, y) :: (0, x) :: st) σ σ' r := by
  obtain ⟨p, l, e, R, s, m, args, below, meth, c⟩ := X
  intro H locs la hR hL hs hl ha
  rw [jall_cons, jall_cons] at hs
  obtain ⟨C1, C2, C3, C4, C5, C6, C7, ⟨C81, C82, C83, C84⟩, C9, C10, C11, C12⟩ := C
  have hx := jok_i.mp hs.2.1
  have hy := jok_i.mp hs.1
  have h := kk H locs la hR hL (jall_cons.mpr ⟨jok_i.mpr (by unfold jmx; split <;> assumption), hs.2.2⟩) hl ha
  have e1 : jv (0, jmx x y) = .int (if Int32.ofInt x < Int32.ofInt y then Int32.ofInt y else Int32.ofInt x) := by
    rw [jv_i]; unfold jmx
    have q := jo_lt hx hy
    by_cases g : x < y
    · rw [if_pos g, if_pos (by rw [q]; exact g)]
    · rw [if_neg g, if_neg (by rw [q]; exact g)]
  rw [List.map_cons, e1] at h
  rw [List.map_cons, List.map_cons, jv_i, jv_i]
  have hz := hR.2.2.2.2.1
  have hz2 := hR.2.2.2.2.2.1
  exact va_mmax C1 C2 (by rw [C3]; exact ha.1.symm) C4 (C5 _ w1) (C5 _ w2) (C5 _ w3) (C5 _ w4) (by omega) (by rw [jwords_cat hs.2.2]; omega) (by omega) (by omega) hd h
theorem jr_mmin (C : jC G X cc own nL ret d nm) {x y : Int} {index : Nat} (w1 : Cond.methodLink own index Lib.Math.min.name ∈ lw_all) (w2 : Cond.static Lib.Math.min.name ∈ lw_all) (w3 : Cond.initialized "java/lang/Math" ∈ lw_all) (w4 : Cond.code Lib.Math.min.name Lib.Math.min.code 2 (some .int) ∈ lw_all) (hd1 : 1 ≤ d) (hWt : jwords st ≤ 33) (hd : decode cc pc = .ok (.invokestatic index, 3))
    (kk : jWP G X nL (pc + 3) ls ((0, jmi x y) :: st) σ σ' r) : jWP G X nL pc ls ((0, y) :: (0, x) :: st) σ σ' r := by
  obtain ⟨p, l, e, R, s, m, args, below, meth, c⟩ := X
  intro H locs la hR hL hs hl ha
  rw [jall_cons, jall_cons] at hs
  obtain ⟨C1, C2, C3, C4, C5, C6, C7, ⟨C81, C82, C83, C84⟩, C9, C10, C11, C12⟩ := C
  have hx := jok_i.mp hs.2.1
  have hy := jok_i.mp hs.1
  have h := kk H locs la hR hL (jall_cons.mpr ⟨jok_i.mpr (by unfold jmi; split <;> assumption), hs.2.2⟩) hl ha
  have e1 : jv (0, jmi x y) = .int (if Int32.ofInt y < Int32.ofInt x then Int32.ofInt y else Int32.ofInt x) := by
    rw [jv_i]; unfold jmi
    have q := jo_lt hy hx
    by_cases g : y < x
    · rw [if_pos g, if_pos (by rw [q]; exact g)]
    · rw [if_neg g, if_neg (by rw [q]; exact g)]
  rw [List.map_cons, e1] at h
  rw [List.map_cons, List.map_cons, jv_i, jv_i]
  have hz := hR.2.2.2.2.1
  have hz2 := hR.2.2.2.2.2.1
  exact va_mmin C1 C2 (by rw [C3]; exact ha.1.symm) C4 (C5 _ w1) (C5 _ w2) (C5 _ w3) (C5 _ w4) (by omega) (by rw [jwords_cat hs.2.2]; omega) (by omega) (by omega) hd h
def jsMM (f : Int → Int → Int) : jStp := fun _ _ kn _ _ st σ => match st with
  | (0, y) :: (0, x) :: s => if Nat.ble (jwords s) 33 then kn ((0, f x y) :: s) σ else none
  | _ => none
variable {wr ty : Bool} {Hs : jHs} {i : Nat}
theorem jsMX_ok (w1 : Cond.methodLink own i Lib.Math.max.name ∈ lw_all) (w2 : Cond.static Lib.Math.max.name ∈ lw_all) (w3 : Cond.initialized "java/lang/Math" ∈ lw_all) (w4 : Cond.code Lib.Math.max.name Lib.Math.max.code 2 (some .int) ∈ lw_all) (hd1 : 1 ≤ d) : jKOk G l own d nm wr ty Hs (16 * i + 3, jsMM jmx) := by
  refine ⟨?_, ?_⟩
  · intro I n hI X cc nL ret pc lr st σ σ' r R mk kn kj x C hH hXl hd hs h hkn hmk hkj
    obtain ⟨rfl, rfl⟩ := jk_invokestatic hI
    dsimp only [jsMM] at h
    split at h
    · split at h
      · rename_i g
        have k1 := hkn _ _ (fun _ => rfl) (fun _ => jEx.rfl) (jst_k (by show 0 < 16; decide) (jst_c (jst_c hs).2).2) h
        rw [jgs_c] at k1
        rw [jgs_c, jgs_c]
        exact jr_mmax C w1 w2 w3 w4 hd1 (by rw [jwords_g]; exact Nat.le_of_ble_eq_true g) hd k1
      · cases h
    · cases h
  · intro hty R mk kn kj pc st σ x P hs h hkn hmk hkj
    dsimp only [jsMM] at h
    split at h
    · split at h
      · exact hkn _ _ jEx.rfl (fun _ => rfl) (jst_k (by show 0 < 16; decide) (jst_c (jst_c hs).2).2) h
      · cases h
    · cases h
theorem jsMI_ok (w1 : Cond.methodLink own i Lib.Math.min.name ∈ lw_all) (w2 : Cond.static Lib.Math.min.name ∈ lw_all) (w3 : Cond.initialized "java/lang/Math" ∈ lw_all) (w4 : Cond.code Lib.Math.min.name Lib.Math.min.code 2 (some .int) ∈ lw_all) (hd1 : 1 ≤ d) : jKOk G l own d nm wr ty Hs (16 * i + 3, jsMM jmi) := by
  refine ⟨?_, ?_⟩
  · intro I n hI X cc nL ret pc lr st σ σ' r R mk kn kj x C hH hXl hd hs h hkn hmk hkj
    obtain ⟨rfl, rfl⟩ := jk_invokestatic hI
    dsimp only [jsMM] at h
    split at h
    · split at h
      · rename_i g
        have k1 := hkn _ _ (fun _ => rfl) (fun _ => jEx.rfl) (jst_k (by show 0 < 16; decide) (jst_c (jst_c hs).2).2) h
        rw [jgs_c] at k1
        rw [jgs_c, jgs_c]
        exact jr_mmin C w1 w2 w3 w4 hd1 (by rw [jwords_g]; exact Nat.le_of_ble_eq_true g) hd k1
      · cases h
    · cases h
  · intro hty R mk kn kj pc st σ x P hs h hkn hmk hkj
    dsimp only [jsMM] at h
    split at h
    · split at h
      · exact hkn _ _ jEx.rfl (fun _ => rfl) (jst_k (by show 0 < 16; decide) (jst_c (jst_c hs).2).2) h
      · cases h
    · cases h
end jMath
