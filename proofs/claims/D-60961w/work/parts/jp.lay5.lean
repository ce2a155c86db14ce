/-! the twin reckons all places -/
set_option maxRecDepth 100000
section jLay5
variable {s t u w : jS} {a k m o p v l n x y c j X f z : Int} {d : Int → Int → Int}
def tyJ (t u : jS) (X : Int) (d : Int → Int → Int) (o p : Int) : Prop := tyW X d t u ∧ (∀ k, 0 ≤ k → k < d 0 1 → d 1 (d 11 k) < o ∨ d 1 (d 11 k) = o ∧ d 11 k < p → jf u 1000 (X + 20) k = plK d k ∧ (d 5 k = 4 → jf u 1000 (X + 21) k = lkK d k ∧ jf u 1000 (X + 13) k = szK d k (plK d k))) ∧ (∀ q, 0 ≤ q → q < d 0 0 → d 1 q < o ∨ d 1 q = o ∧ q < p → jf u 1000 (X + 9) q = paB d q ∧ jf u 1000 (X + 10) q = paE d q) ∧ (∀ i, 0 ≤ i → i < o → i < 4 → jf u 1000 (X + 2) i = ouB d i ∧ jf u 1000 (X + 3) i = ouE d i)
theorem tyJ.jp {r z : Int} (h : tyJ t u X d o p) (hr : r = X + 2 ∨ r = X + 3) (hz : o ≤ z) : tyJ t (jp u 1000 r z v) X d o p := by
  obtain ⟨h1, h2, h3, h4⟩ := h
  refine ⟨h1.jp (by omega), fun k k0 k1 hk => ?_, fun q q0 q1 hq => ?_, fun i i0 i1 i2 => ?_⟩
  · rw [jf_neg (by omega), jf_neg (by omega), jf_neg (by omega)]; exact h2 k k0 k1 hk
  · rw [jf_neg (by omega), jf_neg (by omega)]; exact h3 q q0 q1 hq
  · rw [jf_neg (by omega), jf_neg (by omega)]; exact h4 i i0 i1 i2
theorem t_layIn (h : tLs t X d) (v : vLy d) (o0 : 0 ≤ o) (o1 : o < 4) (hu : tyJ t u X d o 0) (h9 : jf u 1000 (X + 2) o = ouB d o) :
    jE (u_X41_reckon_32 u X (ouB d o) o 0) fun x => ∃ w, x = .inl (w, [X, lyO d (o.toNat + 1), o + 1]) ∧ tyJ t w X d (o + 1) 0 := by
  rw [eu_X41_reckon_32]; unfold du_X41_reckon_32
  refine jS_for (fun p u => tyJ t u X d o p ∧ jf u 1000 (X + 2) o = ouB d o) (fun p => [X, lyP d o p.toNat (ouB d o), o, p]) 0 (d 0 0) v.1.1 ⟨hu, h9⟩ (fun p u p0 p1 ⟨⟨e1, e2, e3, e4⟩, e5⟩ => ?_) (fun u ⟨⟨e1, e2, e3, e4⟩, e5⟩ => ?_)
  · show jE (b_X41_reckon_32 u X (lyP d o p.toNat (ouB d o)) o p) _
    unfold b_X41_reckon_32
    have hs := h.keep e1
    obtain ⟨a1, a2⟩ := hs.2.2.1 p p0 p1
    have a3 := hs.2.2.2.1 p p0 (by have := v.1; omega)
    obtain ⟨g1, g2, g3, g4⟩ := v.2.2.2.2.1 p p0 p1
    have lp := lyP_in v o0 o1 p0 (by omega)
    have eW : W32 (p + 1) = p + 1 := W32_in (by omega) (by have := v.1; omega)
    have eN : (p + 1).toNat = p.toNat + 1 := by omega
    have eP : ((p.toNat : Nat) : Int) = p := by omega
    rw [hs.1.2.1, if_pos p1, jlt_in p0 (by have := v.1; omega), Option.bind_some, a1]
    by_cases c : d 1 p = o
    · have epb : up2 (lyP d o p.toNat (ouB d o)) (d 2 p) = paB d p := by unfold paB; rw [c]
      obtain ⟨w, i1, i2, i3, i4, i5⟩ := t_layPart hs v p0 p1
      rw [if_pos c, jlt_in p0 (by have := v.1; omega), Option.bind_some, a3, if_pos rfl, jlt_in p0 (by have := v.1; omega), Option.bind_some, a2, t_up lp.1 (by omega) g2.1 g2.2, Option.bind_some, epb, i1, Option.bind_some, eu_X41_reckon_75]; unfold du_X41_reckon_75
      rw [eW]
      refine jS_end ⟨?_, ⟨e1.trans i2, fun k k0 k1 hk => ?_, fun q q0 q1 hq => ?_, fun i i0 i1 i2' => by rw [i5 _ _ (.inl rfl), i5 _ _ (.inr rfl)]; exact e4 i i0 i1 i2'⟩, by rw [i5 _ _ (.inl rfl)]; exact e5⟩
      · show [X, paE d p, o, p + 1] = [X, lyP d o (p + 1).toNat (ouB d o), o, p + 1]
        rw [eN]
        show _ = [X, (if d 1 ((p.toNat : Nat) : Int) = o then lyK d (d 3 ((p.toNat : Nat) : Int)) (d 4 ((p.toNat : Nat) : Int) - d 3 ((p.toNat : Nat) : Int)).toNat (up2 (lyP d o p.toNat (ouB d o)) (d 2 ((p.toNat : Nat) : Int))) else _), o, p + 1]
        rw [eP, if_pos c, epb]; rfl
      · obtain ⟨z1, z2⟩ := i3 k k0 k1
        by_cases cp : d 11 k = p
        · rw [if_pos cp] at z1 z2
          rw [if_pos cp] at z2
          exact ⟨z1, z2⟩
        · rw [if_neg cp] at z1 z2
          rw [if_neg cp] at z2
          obtain ⟨x1, x2⟩ := e2 k k0 k1 (by omega)
          exact ⟨z1.trans x1, fun c4 => ⟨(z2 c4).1.trans (x2 c4).1, (z2 c4).2.trans (x2 c4).2⟩⟩
      · obtain ⟨z1, z2⟩ := i4 q
        by_cases cp : q = p
        · rw [if_pos cp] at z1 z2; rw [z1, z2, cp]; exact ⟨rfl, rfl⟩
        · rw [if_neg cp] at z1 z2; rw [z1, z2]; exact e3 q q0 q1 (by omega)
    · rw [if_neg c, eu_X41_reckon_75]; unfold du_X41_reckon_75
      rw [eW]
      refine jS_end ⟨?_, ⟨e1, fun k k0 k1 hk => e2 k k0 k1 (by
        by_cases cp : d 11 k = p
        · rw [cp] at hk ⊢; omega
        · omega), fun q q0 q1 hq => e3 q q0 q1 (by
        by_cases cp : q = p
        · rw [cp] at hq ⊢; omega
        · omega), e4⟩, e5⟩
      · show [X, lyP d o p.toNat (ouB d o), o, p + 1] = [X, lyP d o (p + 1).toNat (ouB d o), o, p + 1]
        rw [eN]
        show _ = [X, (if d 1 ((p.toNat : Nat) : Int) = o then _ else lyP d o p.toNat (ouB d o)), o, p + 1]
        rw [eP, if_neg c]
  · show jE (b_X41_reckon_32 u X (lyP d o (d 0 0).toNat (ouB d o)) o (d 0 0)) _
    unfold b_X41_reckon_32
    rw [(h.keep e1).1.2.1, if_neg (Int.lt_irrefl _), eu_X41_reckon_81]; unfold du_X41_reckon_81
    rw [jst_in o0 o1, Option.bind_some, W32_in (by omega) (by omega)]
    have eo : ((o.toNat : Nat) : Int) = o := by omega
    have eE : lyP d o (d 0 0).toNat (ouB d o) = lyO d (o.toNat + 1) := by
      show _ = lyP d ((o.toNat : Nat) : Int) (d 0 0).toNat (up2 (lyO d o.toNat) (d 14 ((o.toNat : Nat) : Int)))
      rw [eo]; rfl
    rw [eE]
    refine jS_inr (jS_end ⟨_, rfl, ?_⟩)
    have hj : tyJ t u X d o (d 0 0) := ⟨e1, e2, e3, e4⟩
    obtain ⟨w1, w2, w3, w4⟩ := hj.jp (r := X + 3) (z := o) (v := lyO d (o.toNat + 1)) (.inr rfl) (Int.le_refl _)
    refine ⟨w1, fun k k0 k1 hk => w2 k k0 k1 ?_, fun q q0 q1 hq => w3 q q0 q1 (by omega), fun i i0 i1 i2 => ?_⟩
    · obtain ⟨-, ⟨x1, x2, x3, x4⟩, -⟩ := v.2.2.2.2.2.2.1 k k0 k1
      omega
    · by_cases c : i = o
      · rw [c, jf_neg (by omega), e5]; exact ⟨rfl, jf_pos ⟨rfl, rfl, rfl⟩⟩
      · exact w4 i i0 (by omega) i2
theorem t_reckon (h : tLs t X d) (v : vLy d) : ∃ u, m_X41_reckon t X = some (u, 0) ∧ tyW X d t u ∧ tLs u X d ∧ tLq u X d := by
  rw [em_X41_reckon]; unfold dm_X41_reckon
  rw [eu_X41_reckon_7, h.1.1]; unfold du_X41_reckon_7
  have key : jE (jlpW (jc3 b_X41_reckon_7) [X, d 0 3, 0] t) fun r => r.2 = 0 ∧ tyW X d t r.1 ∧ tLq r.1 X d := by
    refine jS_for (fun o u => tyJ t u X d o 0) (fun o => [X, lyO d o.toNat, o]) 0 4 (by decide) ⟨.rfl, fun k k0 k1 hk => ?_, fun q q0 q1 hq => ?_, fun i i0 i1 => by omega⟩ (fun o u o0 o1 e => ?_) (fun u ⟨e1, e2, e3, e4⟩ => ?_)
    · obtain ⟨-, ⟨x1, x2, x3, x4⟩, -⟩ := v.2.2.2.2.2.2.1 k k0 k1
      have := (v.2.2.2.2.1 _ x1 x2).1; omega
    · have := (v.2.2.2.2.1 _ q0 q1).1; omega
    · show jE (b_X41_reckon_7 u X (lyO d o.toNat) o) _
      unfold b_X41_reckon_7
      have hs := h.keep e.1
      obtain ⟨x1, x2⟩ := v.2.2.2.2.2.2.2.2 o o0 o1
      have lo := lyO_lo v o.toNat (by omega)
      rw [if_pos o1, jlt_in o0 o1, Option.bind_some, hs.2.1 o o0 o1, t_up lo.1 (by omega) x1 x2, Option.bind_some, jst_in o0 o1, Option.bind_some]
      have hj := e.jp (r := X + 2) (z := o) (v := up2 (lyO d o.toNat) (d 14 o)) (.inl rfl) (Int.le_refl _)
      refine jE_mono (t_layIn h v o0 o1 hj (jf_pos ⟨rfl, rfl, rfl⟩)) fun x hx => ?_
      obtain ⟨w, rfl, hw⟩ := hx
      refine ⟨?_, hw⟩
      show _ = [X, lyO d (o + 1).toNat, o + 1]
      rw [show (o + 1).toNat = o.toNat + 1 by omega]
    · show jE (b_X41_reckon_7 u X (lyO d (4 : Int).toNat) 4) _
      unfold b_X41_reckon_7
      rw [if_neg (by decide)]
      refine jS_inr (jS_end ⟨rfl, e1, ⟨fun k k0 k1 => ?_, fun q q0 q1 => ?_, fun o o0 o1 => e4 o o0 o1 o1⟩⟩)
      · obtain ⟨-, ⟨x1, x2, x3, x4⟩, -⟩ := v.2.2.2.2.2.2.1 k k0 k1
        have x5 := (v.2.2.2.2.1 _ x1 x2).1
        exact e2 k k0 k1 (by omega)
      · have x5 := (v.2.2.2.2.1 _ q0 q1).1
        exact e3 q q0 q1 (by omega)
  obtain ⟨r, e, e1, e2, e3⟩ := key
  exact ⟨r.1, by rw [e, ← e1], e2, h.keep e2, e3⟩
end jLay5
