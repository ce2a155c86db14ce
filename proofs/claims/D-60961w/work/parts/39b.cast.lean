/-! casts and instanceof -/
section jCast
variable {G : jG} {X : jX} {l : Launch} {cc : ByteArray} {own nm : String} {nL d pc : Nat} {ret : Option FieldType} {ls : List (Nat × jT)} {st : List jT} {σ σ' : jS} {r : jT}
/-- the class that a kind tells -/
def jCK (k : Int) (C : String) : Prop := (∃ (ci : Nat) (rr : vw_C), (k = ci ∨ k = 3000 + (ci : Int)) ∧ ci < 1000 ∧ jCl[ci]? = some rr ∧ rr.1 = C) ∨ ((k = 1001 ∨ k = 4001) ∧ C = "[B")
theorem jCK_cell {s : State} {H : Heap} {a : Int} {C : String} (hR : jRel G s σ H) (h0 : 0 ≤ a) (h : jCK (jK σ a) C) : ∃ cell : Cell, H[a.toNat]? = some cell ∧ cell.vm.isStatics = false ∧ s.vm.findClass C = some cell.cls := by
  rcases h with ⟨ci, rr, h1, h2, h3, rfl⟩ | ⟨h1, rfl⟩
  · obtain ⟨cell, q1, q2, q3, q4⟩ := jclsE hR h3 h0 h1 h2
    exact ⟨cell, q1, by rw [q3]; rfl, by rw [q2]; exact q4⟩
  · obtain ⟨n0, n1, a4, a5, b1, b2⟩ := jarrE (t := 1) (ty := .byte) hR h0 h1 (by omega) rfl
    exact ⟨_, a4, rfl, va_nm_byte b2⟩
theorem jr_cast (C : jC G X cc own nL ret d nm) {a : Int} {index : Nat} {T : String} (w1 : Cond.classLink own index T ∈ lw_all) (hd : decode cc pc = .ok (.checkcast index, 3)) (h0 : 0 ≤ a) (hk : jCK (jK σ a) T) (kk : jWP G X nL (pc + 3) ls ((2, a) :: st) σ σ' r) : jWP G X nL pc ls ((2, a) :: st) σ σ' r := by
  obtain ⟨p, l, e, R, s, m, args, below, meth, c⟩ := X
  intro H locs la hR hL hs hl ha
  have h := kk H locs la hR hL hs hl ha
  rw [List.map_cons, jv_r h0] at h ⊢
  exact va_castE C.1 C.2.1 C.2.2.2.1 (C.2.2.2.2.1 _ w1) (jCK_cell hR h0 hk) hd h
theorem jr_instY (C : jC G X cc own nL ret d nm) {a : Int} {index : Nat} {T : String} (w1 : Cond.classLink own index T ∈ lw_all) (hd : decode cc pc = .ok (.instanceof index, 3)) (h0 : 0 ≤ a) (hk : jCK (jK σ a) T) (kk : jWP G X nL (pc + 3) ls ((0, 1) :: st) σ σ' r) : jWP G X nL pc ls ((2, a) :: st) σ σ' r := by
  obtain ⟨p, l, e, R, s, m, args, below, meth, c⟩ := X
  intro H locs la hR hL hs hl ha
  rw [jall_cons] at hs
  have h := kk H locs la hR hL (jall_cons.mpr ⟨jok_i.mpr ⟨by decide, by decide⟩, hs.2⟩) hl ha
  rw [List.map_cons] at h
  rw [List.map_cons, jv_r h0]
  exact va_instE C.1 C.2.1 C.2.2.2.1 (C.2.2.2.2.1 _ w1) (jCK_cell hR h0 hk) hd h
theorem jr_instN (C : jC G X cc own nL ret d nm) {a : Int} {index : Nat} {T K : String} (w1 : Cond.classLink own index T ∈ lw_all) (hd : decode cc pc = .ok (.instanceof index, 3)) (h0 : 0 ≤ a) (hk : jCK (jK σ a) K) (hn : (K, T) ∈ jNcs) (kk : jWP G X nL (pc + 3) ls ((0, 0) :: st) σ σ' r) : jWP G X nL pc ls ((2, a) :: st) σ σ' r := by
  obtain ⟨p, l, e, R, s, m, args, below, meth, c⟩ := X
  intro H locs la hR hL hs hl ha
  rw [jall_cons] at hs
  have h := kk H locs la hR hL (jall_cons.mpr ⟨jok_i.mpr ⟨by decide, by decide⟩, hs.2⟩) hl ha
  rw [List.map_cons] at h
  rw [List.map_cons, jv_r h0]
  exact va_instNo C.1 C.2.1 C.2.2.2.1 (C.2.2.2.2.1 _ w1) (hR.2.2.2.2.2.2.2.2.2.2.1 _ hn) (jCK_cell hR h0 hk) hd h
def jio1 (σ : jS) (Y N : List Int) (a : Int) : Option Int := if a < 0 then none else if jK σ a ∈ Y then some 1 else if jK σ a ∈ N then some 0 else none
def jsIO1 (Y N : List Int) : jStp := fun _ _ kn _ _ st σ => match st with
  | (ta, a) :: s => if jrt ta then (jio1 σ Y N a).bind fun v => kn ((0, v) :: s) σ else none
  | _ => none
variable {wr ty : Bool} {Hs : jHs} {i : Nat}
theorem jsCC_ok {T : String} {L : List Int} (w1 : Cond.classLink own i T ∈ lw_all) (hL : ∀ k ∈ L, jCK k T) : jKOk G l own d nm wr ty Hs (16 * i + 10, jsCC L) := by
  refine ⟨?_, ?_⟩
  · intro I n hI X cc nL ret pc lr st σ σ' r R mk kn kj x C hH hXl hd hs h hkn hmk hkj
    obtain ⟨rfl, rfl⟩ := jk_checkcast hI
    dsimp only [jsCC] at h
    split at h
    · rename_i ta a s
      split at h
      · rename_i g
        unfold jkk at h; split at h
        · rename_i g0
          have k1 := hkn _ _ (fun _ => rfl) (fun _ => jEx.rfl) hs h
          rw [jgs_c, jgm_rt g] at k1 ⊢
          exact jr_cast C w1 hd g0.1 (hL _ g0.2) k1
        · cases h
      · cases h
    · cases h
  · intro hty R mk kn kj pc st σ x P hs h hkn hmk hkj
    dsimp only [jsCC] at h
    split at h
    · split at h
      · unfold jkk at h; split at h
        · exact hkn _ _ jEx.rfl (fun _ => rfl) hs h
        · cases h
      · cases h
    · cases h
theorem jsIO1_ok {T : String} {Y N : List Int} (w1 : Cond.classLink own i T ∈ lw_all) (hY : ∀ k ∈ Y, jCK k T) (hN : ∀ k ∈ N, ∃ K, jCK k K ∧ (K, T) ∈ jNcs) : jKOk G l own d nm wr ty Hs (16 * i + 11, jsIO1 Y N) := by
  refine ⟨?_, ?_⟩
  · intro I n hI X cc nL ret pc lr st σ σ' r R mk kn kj x C hH hXl hd hs h hkn hmk hkj
    obtain ⟨rfl, rfl⟩ := jk_instanceof hI
    dsimp only [jsIO1] at h
    split at h
    · rename_i ta a s
      split at h
      · rename_i g
        obtain ⟨v, hv, h⟩ := jb_b h
        have k1 := hkn _ _ (fun _ => rfl) (fun _ => jEx.rfl) (jst_k (by show 0 < 16; decide) (jst_c hs).2) h
        rw [jgs_c] at k1
        rw [jgs_c, jgm_rt g]
        unfold jio1 at hv
        split at hv
        · cases hv
        · rename_i h0
          split at hv
          · rename_i gy; cases hv
            exact jr_instY C w1 hd (by omega) (hY _ gy) k1
          · split at hv
            · rename_i gn; cases hv
              obtain ⟨K, e1, e2⟩ := hN _ gn
              exact jr_instN C w1 hd (by omega) e1 e2 k1
            · cases hv
      · cases h
    · cases h
  · intro hty R mk kn kj pc st σ x P hs h hkn hmk hkj
    dsimp only [jsIO1] at h
    split at h
    · split at h
      · obtain ⟨v, hv, h⟩ := jb_b h
        exact hkn _ _ jEx.rfl (fun _ => rfl) (jst_k (by show 0 < 16; decide) (jst_c hs).2) h
      · cases h
    · cases h
end jCast
