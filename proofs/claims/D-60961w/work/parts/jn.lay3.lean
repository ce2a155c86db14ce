/-! the component reckons all places -/
set_option maxRecDepth 100000
section jLay3
variable {s t u w : jS} {a k m o p v l n x y c j A B f : Int} {d : Int → Int → Int}
/-- places so far: of outputs ahead of o, in it of parts ahead of p -/
def lyJ (s u : jS) (B : Int) (d : Int → Int → Int) (o p : Int) : Prop := lyW B s u ∧ (∀ k, 0 ≤ k → k < d 0 1 → d 1 (d 11 k) < o ∨ d 1 (d 11 k) = o ∧ d 11 k < p → pcX u B d k 1 = plK d k) ∧ (∀ q, 0 ≤ q → q < d 0 0 → d 1 q < o ∨ d 1 q = o ∧ q < p → jf u 70 (poP s B q) 2 = paB d q ∧ jf u 70 (poP s B q) 3 = paE d q) ∧ (∀ i, 0 ≤ i → i < o → i < 4 → jf u 1000 (B + 9) i = ouB d i ∧ jf u 1000 (B + 10) i = ouE d i)
theorem lyJ.jp {r z : Int} (h : lyJ s u B d o p) (hr : r = B + 9 ∨ r = B + 10) (hz : o ≤ z) : lyJ s (jp u 1000 r z v) B d o p := by
  obtain ⟨h1, h2, h3, h4⟩ := h
  refine ⟨h1.jp (by omega), fun k k0 k1 hk => ?_, fun q q0 q1 hq => ?_, fun i i0 i1 i2 => ?_⟩
  · have kk := kOf_c (f := d 5 k)
    have := h2 k k0 k1 hk
    unfold pcX poK at this ⊢
    rw [jf_neg (by omega), jf_neg (by omega)]; exact this
  · rw [jf_neg (by omega), jf_neg (by omega)]; exact h3 q q0 q1 hq
  · rw [jf_neg (by omega), jf_neg (by omega)]; exact h4 i i0 i1 i2
theorem c_layIn (h : cLs s B d) (v : vLy d) (o0 : 0 ≤ o) (o1 : o < 4) (hu : lyJ s u B d o 0) (h9 : jf u 1000 (B + 9) o = ouB d o) :
    jE (u_X36_lay_45 u B (ouB d o) o 0) fun x => ∃ w, x = .inl (w, [B, lyO d (o.toNat + 1), o + 1]) ∧ lyJ s w B d (o + 1) 0 := by
  rw [eu_X36_lay_45]; unfold du_X36_lay_45
  refine jS_for (fun p u => lyJ s u B d o p ∧ jf u 1000 (B + 9) o = ouB d o) (fun p => [B, lyP d o p.toNat (ouB d o), o, p]) 0 (d 0 0) v.1.1 ⟨hu, h9⟩ (fun p u p0 p1 ⟨⟨e1, e2, e3, e4⟩, e5⟩ => ?_) (fun u ⟨⟨e1, e2, e3, e4⟩, e5⟩ => ?_)
  · show jE (b_X36_lay_45 u B (lyP d o p.toNat (ouB d o)) o p) _
    unfold b_X36_lay_45
    have hs := h.keep e1
    obtain ⟨⟨a1, a2, a3⟩, b1, b2, b3, b4, b5⟩ := hs.2.2.2.1 p p0 p1
    obtain ⟨g1, g2, g3, g4⟩ := v.2.2.2.2.1 p p0 p1
    have hpo : ∀ q, poP u B q = poP s B q := e1.po.2.1
    have lp := lyP_in v o0 o1 p0 (by omega)
    have eW : W32 (p + 1) = p + 1 := W32_in (by omega) (by have := v.1; omega)
    have eN : (p + 1).toNat = p.toNat + 1 := by omega
    have eP : ((p.toNat : Nat) : Int) = p := by omega
    rw [hs.2.1.1, if_pos p1, jlt_in p0 (by have := v.1; omega), Option.bind_some, jrd_in a1 a3, Option.bind_some, b1]
    by_cases c : d 1 p = o
    · have epb : up2 (lyP d o p.toNat (ouB d o)) (d 2 p) = paB d p := by unfold paB; rw [c]
      obtain ⟨w, i1, i2, i3, i4, i5⟩ := c_layPart hs v p0 p1 lp epb
      rw [if_pos c, Option.bind_some, jrd_in a1 a3, Option.bind_some, b3, if_pos rfl, Option.bind_some, i1, Option.bind_some, eu_X36_lay_90]; unfold du_X36_lay_90
      rw [eW]
      refine jS_end ⟨?_, ⟨e1.trans i2, fun k k0 k1 hk => ?_, fun q q0 q1 hq => ?_, fun i i0 i1 i2' => by rw [i5, i5]; exact e4 i i0 i1 i2'⟩, by rw [i5]; exact e5⟩
      · show [B, paE d p, o, p + 1] = [B, lyP d o (p + 1).toNat (ouB d o), o, p + 1]
        rw [eN]
        show _ = [B, (if d 1 ((p.toNat : Nat) : Int) = o then lyK d (d 3 ((p.toNat : Nat) : Int)) (d 4 ((p.toNat : Nat) : Int) - d 3 ((p.toNat : Nat) : Int)).toNat (up2 (lyP d o p.toNat (ouB d o)) (d 2 ((p.toNat : Nat) : Int))) else _), o, p + 1]
        rw [eP, if_pos c, epb]; rfl
      · rw [i3 k k0 k1]
        by_cases cp : d 11 k = p
        · rw [if_pos cp]
        · rw [if_neg cp]; exact e2 k k0 k1 (by omega)
      · obtain ⟨z1, z2⟩ := i4 q q0 q1
        rw [hpo] at z1 z2
        by_cases cp : q = p
        · rw [if_pos cp] at z1 z2; rw [z1, z2, cp]; exact ⟨rfl, rfl⟩
        · rw [if_neg cp] at z1 z2; rw [z1, z2]; exact e3 q q0 q1 (by omega)
    · rw [if_neg c, eu_X36_lay_90]; unfold du_X36_lay_90
      rw [eW]
      refine jS_end ⟨?_, ⟨e1, fun k k0 k1 hk => e2 k k0 k1 (by
        by_cases cp : d 11 k = p
        · rw [cp] at hk ⊢; omega
        · omega), fun q q0 q1 hq => e3 q q0 q1 (by
        by_cases cp : q = p
        · rw [cp] at hq ⊢; omega
        · omega), e4⟩, e5⟩
      · show [B, lyP d o p.toNat (ouB d o), o, p + 1] = [B, lyP d o (p + 1).toNat (ouB d o), o, p + 1]
        rw [eN]
        show _ = [B, (if d 1 ((p.toNat : Nat) : Int) = o then _ else lyP d o p.toNat (ouB d o)), o, p + 1]
        rw [eP, if_neg c]
  · show jE (b_X36_lay_45 u B (lyP d o (d 0 0).toNat (ouB d o)) o (d 0 0)) _
    unfold b_X36_lay_45
    rw [(h.keep e1).2.1.1, if_neg (Int.lt_irrefl _), eu_X36_lay_96]; unfold du_X36_lay_96
    rw [jst_in o0 o1, Option.bind_some, W32_in (by omega) (by omega)]
    have eo : ((o.toNat : Nat) : Int) = o := by omega
    have eE : lyP d o (d 0 0).toNat (ouB d o) = lyO d (o.toNat + 1) := by
      show _ = lyP d ((o.toNat : Nat) : Int) (d 0 0).toNat (up2 (lyO d o.toNat) (d 14 ((o.toNat : Nat) : Int)))
      rw [eo]; rfl
    rw [eE]
    refine jS_inr (jS_end ⟨_, rfl, ?_⟩)
    have hj : lyJ s u B d o (d 0 0) := ⟨e1, e2, e3, e4⟩
    obtain ⟨w1, w2, w3, w4⟩ := hj.jp (r := B + 10) (z := o) (v := lyO d (o.toNat + 1)) (.inr rfl) (Int.le_refl _)
    refine ⟨w1, fun k k0 k1 hk => w2 k k0 k1 ?_, fun q q0 q1 hq => w3 q q0 q1 (by omega), fun i i0 i1 i2 => ?_⟩
    · obtain ⟨-, ⟨x1, x2, x3, x4⟩, -⟩ := v.2.2.2.2.2.2.1 k k0 k1
      omega
    · by_cases c : i = o
      · rw [c, jf_neg (by omega), e5]; exact ⟨rfl, jf_pos ⟨rfl, rfl, rfl⟩⟩
      · exact w4 i i0 (by omega) i2
/-- what is laid out, places too, if they are said to be right -/
def cLy (s : jS) (B : Int) (d : Int → Int → Int) : Prop := cLs s B d ∧ (jf s 40 B 19 = 0 ∨ jf s 40 B 19 = 1 ∧ cLd s B d)
theorem c_layAll (h : cLy s B d) (v : vLy d) : ∃ u, m_X36_lay s B = some (u, 0) ∧ lyW B s u ∧ cLs u B d ∧ cLd u B d ∧ jf u 40 B 19 = 1 := by
  obtain ⟨h, h19⟩ := h
  rw [em_X36_lay]; unfold dm_X36_lay
  rcases h19 with h0 | ⟨h1, hd⟩
  rotate_left
  · rw [if_neg (by omega)]
    exact ⟨s, rfl, .rfl, h, hd, h1⟩
  rw [if_pos h0, eu_X36_lay_15, h.2.1.2.2.2]; unfold du_X36_lay_15
  have key : jE (jlpW (jc3 b_X36_lay_15) [B, d 0 3, 0] s) fun r => r.2 = 0 ∧ lyW B s r.1 ∧ cLd r.1 B d ∧ jf r.1 40 B 19 = 1 := by
    refine jS_for (fun o u => lyJ s u B d o 0) (fun o => [B, lyO d o.toNat, o]) 0 4 (by decide) ⟨.rfl, fun k k0 k1 hk => ?_, fun q q0 q1 hq => ?_, fun i i0 i1 => by omega⟩ (fun o u o0 o1 e => ?_) (fun u ⟨e1, e2, e3, e4⟩ => ?_)
    · obtain ⟨-, ⟨x1, x2, x3, x4⟩, -⟩ := v.2.2.2.2.2.2.1 k k0 k1
      have := (v.2.2.2.2.1 _ x1 x2).1; omega
    · have := (v.2.2.2.2.1 _ q0 q1).1; omega
    · show jE (b_X36_lay_15 u B (lyO d o.toNat) o) _
      unfold b_X36_lay_15
      have hs := h.keep e.1
      obtain ⟨x1, x2⟩ := v.2.2.2.2.2.2.2.2 o o0 o1
      have lo := lyO_lo v o.toNat (by omega)
      rw [if_pos o1, jlt_in o0 o1, Option.bind_some, hs.2.2.1 o o0 o1, c_up lo.1 (by omega) x1 x2, Option.bind_some, jst_in o0 o1, Option.bind_some, jlt_in o0 o1, Option.bind_some, jf_pos ⟨rfl, rfl, rfl⟩]
      have hj := e.jp (r := B + 9) (z := o) (v := up2 (lyO d o.toNat) (d 14 o)) (.inl rfl) (Int.le_refl _)
      refine jE_mono (c_layIn h v o0 o1 hj (jf_pos ⟨rfl, rfl, rfl⟩)) fun x hx => ?_
      obtain ⟨w, rfl, hw⟩ := hx
      refine ⟨?_, hw⟩
      show _ = [B, lyO d (o + 1).toNat, o + 1]
      rw [show (o + 1).toNat = o.toNat + 1 by omega]
    · show jE (b_X36_lay_15 u B (lyO d (4 : Int).toNat) 4) _
      unfold b_X36_lay_15
      rw [if_neg (by decide), eu_X36_lay_109]; unfold du_X36_lay_109
      rw [jzb_in (.inr rfl), Option.bind_some]
      refine jS_inr (jS_end ⟨rfl, e1.jp (by omega), ⟨fun k k0 k1 => ?_, fun q q0 q1 => ?_, fun o o0 o1 => ?_⟩, jf_pos ⟨rfl, rfl, rfl⟩⟩)
      · obtain ⟨-, ⟨x1, x2, x3, x4⟩, -⟩ := v.2.2.2.2.2.2.1 k k0 k1
        have x5 := (v.2.2.2.2.1 _ x1 x2).1
        have := e2 k k0 k1 (by omega)
        have kk := kOf_c (f := d 5 k)
        unfold pcX poK at this ⊢
        rw [jf_neg (by omega), jf_neg (by omega)]; exact this
      · have x5 := (v.2.2.2.2.1 _ q0 q1).1
        have eq : poP (jp u 40 B 19 1) B q = poP s B q := by
          show jf (jp u 40 B 19 1) 1019 (B + 1) q = _
          rw [jf_neg (by omega)]; exact e1.po.2.1 q
        rw [eq, jf_neg (by omega), jf_neg (by omega)]; exact e3 q q0 q1 (by omega)
      · rw [jf_neg (by omega), jf_neg (by omega)]; exact e4 o o0 o1 o1
  obtain ⟨r, e, e1, e2, e3, e4⟩ := key
  exact ⟨r.1, by rw [show ([B, d 0 3, 0] : List Int) = [B, d 0 3, 0] from rfl, e, ← e1], e2, h.keep e2, e3, e4⟩
end jLay3
