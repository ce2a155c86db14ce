/-! what a read object obeys beyond its bounds: all lies in its sections -/
section jGood
variable {s t : jS} {O X n f p : Int} {g : Int → Int}
def gOb (o : Int → Int → Int → Int) : Prop := (∀ k, 0 ≤ k → k < o 2 0 0 → 0 ≤ o 3 k 0 ∧ o 3 k 0 < o 1 0 0 ∧ o 3 k 0 % 2 = 0) ∧ (∀ k, 0 ≤ k → k < o 2 1 0 → 0 ≤ o 4 k 0 → o 4 k 0 ≤ 3 → 0 ≤ o 4 k 1 ∧ 0 ≤ o 4 k 2 ∧ o 4 k 1 + o 4 k 2 ≤ o 1 (o 4 k 0) 0) ∧ ∀ k, 0 ≤ k → k < o 2 2 0 → (o 5 k 0 = 0 ∨ o 5 k 2 = 1 ∨ 33 ≤ o 5 k 2 ∧ o 5 k 2 ≤ 39) ∧ (o 5 k 3 = -1 ↔ o 5 k 2 = 43 ∨ o 5 k 2 = 51) ∧ (o 5 k 2 = 43 → o 5 k 4 % 2 = 0) ∧ o 5 k 1 + kW (o 5 k 2) (o 5 k 4) ≤ o 1 (o 5 k 0) 0
theorem gOb_bd1 {o : Int → Int → Int → Int} (h : gOb o) : ¬ bd1 o := fun ⟨k, k0, k1, z⟩ => by
  have := (h.1 k k0 k1).2.1; omega
theorem kW_eq {k a b : Int} (h : k = 43 → a = b) : kW k a = kW k b := by
  unfold kW
  by_cases c : k = 43
  · rw [if_pos c, if_pos c, h c]
  · rw [if_neg c, if_neg c]
theorem gOb_of (hb : byG g n) (hn : n ≤ 8192) (h : Gd (Lall g n)) : gOb (oR g) := by
  unfold Lall at h
  simp only [Gd_app] at h
  obtain ⟨g1, g2, g3, g4, g5, g7, g8, g9⟩ := h
  have hN : Nm g := by
    unfold Lnames at g3
    rw [Gd_cons, Gd_app, Gd_app] at g3
    exact Nm_of g3.2.2.1
  have hP : Pr g n := ⟨Lhead_ok g1, En_of g2, hN, Ru_of g4, Sz_of g5, hb, hn⟩
  refine ⟨fun k k0 k1 => ?_, fun k k0 k1 w0 w1 => ?_, fun k k0 k1 => ?_⟩
  · have k1' : k < sR g 4 / 2 := k1
    obtain ⟨p1, p2, p3, -⟩ := hP.part (k := 4) (by omega)
    unfold Lsts at g9
    rw [Gd_app, ckF_gd] at g9
    have r := (Gd_cons.mp (g9.1 k k0 k1')).1
    have lo := (r2_lo hb (p := fR g 4 + 2 * k) (by omega) (by omega)).1
    exact ⟨lo, r.1, r.2.1⟩
  · obtain ⟨n1, n2, n3⟩ := nSy_lo hP
    have k1' : k < nSy g - 1 := k1
    have w0' : 0 ≤ yWh g (k + 1) := w0
    have w1' : yWh g (k + 1) ≤ 3 := w1
    unfold Lsyms at g7
    rw [Gd_app, Gd_app, ckF_gd, ckF_gd] at g7
    have r := g7.2.1 (k + 1) (by omega) (by omega)
    unfold Lsym at r
    simp only [Gd_cons] at r
    have e := r.2.2.2.2.2.1
    obtain ⟨y1, y2⟩ := ySy_in hP (x := k + 1) (by omega) (by omega)
    have v1 := (r4_lo hb (p := ySy g (k + 1) + 4) (by omega) (by omega)).1
    have v2 := (r4_lo hb (p := ySy g (k + 1) + 8) (by omega) (by omega)).1
    have hs : sR g (yWh g (k + 1)).toNat ≤ 4096 := by
      by_cases c : yWh g (k + 1) = 3
      · rw [c]; exact hP.part3.2
      · have := hP.sec (k := (yWh g (k + 1)).toNat) (by omega); omega
    unfold yAm at e
    rw [if_neg (by omega), if_neg (by omega), if_neg (by omega)] at e
    have va : 0 ≤ yVa g (k + 1) := v1
    have vz : 0 ≤ ySz g (k + 1) := v2
    have : yVa g (k + 1) + ySz g (k + 1) ≤ sR g (yWh g (k + 1)).toNat := by
      by_cases c : sR g (yWh g (k + 1)).toNat < yVa g (k + 1)
      · rw [if_pos c] at e; omega
      · rw [if_neg c] at e
        by_cases d : sR g (yWh g (k + 1)).toNat < yVa g (k + 1) + ySz g (k + 1)
        · rw [if_pos d] at e; omega
        · omega
    have e1 : W32 (yVa g (k + 1)) = yVa g (k + 1) := W32_in (by omega) (by omega)
    have e2 : W32 (ySz g (k + 1)) = ySz g (k + 1) := W32_in (by omega) (by omega)
    show 0 ≤ W32 (yVa g (k + 1)) ∧ 0 ≤ W32 (ySz g (k + 1)) ∧ W32 (yVa g (k + 1)) + W32 (ySz g (k + 1)) ≤ sR g (yWh g (k + 1)).toNat
    rw [e1, e2]; exact ⟨va, vz, this⟩
  · have k1' : k < bRl g 3 := k1
    have hk : ∃ S x, (0 ≤ S ∧ S < 3) ∧ (0 ≤ x ∧ x < sR g (5 + S.toNat) / 12) ∧ k = bRl g S + x := by
      obtain ⟨a1, a2, a3⟩ := bRl_lo hP (s := 0) (by omega) (by omega)
      obtain ⟨b1, b2, b3⟩ := bRl_lo hP (s := 1) (by omega) (by omega)
      obtain ⟨c1, c2, c3⟩ := bRl_lo hP (s := 2) (by omega) (by omega)
      have z : bRl g 0 = 0 := rfl
      rw [show (0 : Int) + 1 = 1 by rfl] at a2
      rw [show (1 : Int) + 1 = 2 by rfl] at b2
      rw [show (2 : Int) + 1 = 3 by rfl] at c2
      by_cases c : k < bRl g 1
      · exact ⟨0, k, ⟨by omega, by omega⟩, ⟨k0, by omega⟩, by omega⟩
      · by_cases d : k < bRl g 2
        · exact ⟨1, k - bRl g 1, ⟨by omega, by omega⟩, ⟨by omega, by omega⟩, by omega⟩
        · exact ⟨2, k - bRl g 2, ⟨by omega, by omega⟩, ⟨by omega, by omega⟩, by omega⟩
    obtain ⟨S, x, ⟨S0, S1⟩, ⟨x0, x1⟩, rfl⟩ := hk
    obtain ⟨o1, o2⟩ := sOf_b hP S0 S1 x0 x1
    obtain ⟨p1, p2, p3, p4, -⟩ := hP.part (k := 5 + S.toNat) (by omega)
    unfold Lmvs at g8
    rw [Gd_app, ckF_gd] at g8
    have r := g8.1 S S0 S1
    rw [ckF_gd] at r
    have r := r x x0 x1
    unfold Lmv at r
    simp only [Gd_cons] at r
    obtain ⟨r1, r2', r3, r4', -⟩ := r
    have hsec := hP.sec (k := S.toNat) (by omega)
    have v0 := r4_lo hb (p := fR g (5 + S.toNat) + 12 * x) (by omega) (by omega)
    have v4 := r4_lo hb (p := fR g (5 + S.toNat) + 12 * x + 4) (by omega) (by omega)
    have v8 := r4_lo hb (p := fR g (5 + S.toNat) + 12 * x + 8) (by omega) (by omega)
    have eS : ((S.toNat : Nat) : Int) = S := by omega
    have e5 : oR g 5 (bRl g S + x) = mRw g S (fR g (5 + S.toNat) + 12 * x) := by
      show mRw g (sOf g (bRl g S + x)) (pOf g (bRl g S + x)) = _
      rw [o1, o2]
    rw [e5]
    generalize fR g (5 + S.toNat) + 12 * x = q at *
    have e8 : g (q + 4) = 43 → W32 (r4 g (q + 8)) = r4 g (q + 8) := fun z => W32_in (by have := r3 z; omega) (by have := r3 z; omega)
    have hkw : 0 ≤ kW (g (q + 4)) (r4 g (q + 8)) := kW_lo r1.1 fun _ => v8.1
    have e0 : W32 (r4 g q) = r4 g q := W32_in (by omega) (by omega)
    rw [eS] at r1
    refine ⟨r1.2, ?_, fun z => ?_, ?_⟩
    · show r4 g (q + 4) / 256 - 1 = -1 ↔ g (q + 4) = 43 ∨ g (q + 4) = 51
      rw [← r2'.2]; omega
    · show W32 (r4 g (q + 8)) % 2 = 0
      rw [e8 z]; exact (r3 z).2
    · show W32 (r4 g q) + kW (g (q + 4)) (W32 (r4 g (q + 8))) ≤ sR g S.toNat
      rw [e0, kW_eq (b := r4 g (q + 8)) e8]; exact r4'
end jGood
