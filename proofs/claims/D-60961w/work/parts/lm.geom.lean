/-! the linker: pieces don't meet, pure -/
set_option maxRecDepth 100000
section jLge
variable {a b k l m n o p q : Int} {d : Int → Int → Int}
theorem lyK_mono (v : vLy d) (k0 : 0 ≤ k) (n : Nat) : ∀ m : Nat, k + (n + m : Nat) ≤ d 0 1 → lyK d k n a ≤ lyK d k (n + m) a
  | 0, _ => Int.le_refl _
  | m + 1, h => by
    have i := lyK_mono v k0 n m (by omega)
    have z := szK_lo (a := lyK d k (n + m) a) v (k := k + ((n + m : Nat) : Int)) (by omega) (by omega)
    show _ ≤ lyK d k (n + m) a + szK d (k + ((n + m : Nat) : Int)) (lyK d k (n + m) a)
    omega
theorem lyP_mono (v : vLy d) (p : Nat) : ∀ m : Nat, ((p + m : Nat) : Int) ≤ d 0 0 → lyP d o p a ≤ lyP d o (p + m) a
  | 0, _ => Int.le_refl _
  | m + 1, h => by
    have i := lyP_mono v p m (by omega)
    obtain ⟨-, g2, ⟨f1, f2, f3⟩, -⟩ := v.2.2.2.2.1 ((p + m : Nat) : Int) (by omega) (by omega)
    show _ ≤ if d 1 ((p + m : Nat) : Int) = o then lyK d (d 3 ((p + m : Nat) : Int)) (d 4 ((p + m : Nat) : Int) - d 3 ((p + m : Nat) : Int)).toNat (up2 (lyP d o (p + m) a) (d 2 ((p + m : Nat) : Int))) else lyP d o (p + m) a
    by_cases c : d 1 ((p + m : Nat) : Int) = o
    · rw [if_pos c]
      have u := up2_lo (a := lyP d o (p + m) a) g2.1 g2.2
      have := lyK_lo v f1 (d 4 ((p + m : Nat) : Int) - d 3 ((p + m : Nat) : Int)).toNat (up2 (lyP d o (p + m) a) (d 2 ((p + m : Nat) : Int))) (by omega)
      omega
    · rw [if_neg c]; exact i
theorem paE_P (p0 : 0 ≤ p) : paE d p = lyP d (d 1 p) (p.toNat + 1) (ouB d (d 1 p)) := by
  have e : ((p.toNat : Nat) : Int) = p := by omega
  show _ = if d 1 ((p.toNat : Nat) : Int) = d 1 p then lyK d (d 3 ((p.toNat : Nat) : Int)) (d 4 ((p.toNat : Nat) : Int) - d 3 ((p.toNat : Nat) : Int)).toNat (up2 (lyP d (d 1 p) p.toNat (ouB d (d 1 p))) (d 2 ((p.toNat : Nat) : Int))) else _
  rw [e, if_pos rfl]; rfl
theorem ouE_P (o0 : 0 ≤ o) : ouE d o = lyP d o (d 0 0).toNat (ouB d o) := by
  have e : ((o.toNat : Nat) : Int) = o := by omega
  unfold ouE ouB
  show lyP d ((o.toNat : Nat) : Int) (d 0 0).toNat (up2 (lyO d o.toNat) (d 14 ((o.toNat : Nat) : Int))) = _
  rw [e]
/-- a part lies within its output -/
theorem pa_in (v : vLy d) (p0 : 0 ≤ p) (p1 : p < d 0 0) : ouB d (d 1 p) ≤ paB d p ∧ paB d p ≤ paE d p ∧ paE d p ≤ ouE d (d 1 p) := by
  obtain ⟨g1, g2, ⟨f1, f2, f3⟩, -⟩ := v.2.2.2.2.1 p p0 p1
  refine ⟨?_, ?_, ?_⟩
  · have q := lyP_lo (o := d 1 p) v p.toNat (ouB d (d 1 p)) (by omega)
    have u := up2_lo (a := lyP d (d 1 p) p.toNat (ouB d (d 1 p))) g2.1 g2.2
    unfold paB; omega
  · have := lyK_lo v f1 (d 4 p - d 3 p).toNat (paB d p) (by omega)
    unfold paE; omega
  · rw [paE_P p0, ouE_P g1.1]
    have := lyP_mono (o := d 1 p) (a := ouB d (d 1 p)) v (p.toNat + 1) ((d 0 0).toNat - (p.toNat + 1)) (by omega)
    rw [show p.toNat + 1 + ((d 0 0).toNat - (p.toNat + 1)) = (d 0 0).toNat by omega] at this
    exact this
/-- parts of one output follow one another -/
theorem pa_lt (v : vLy d) (p0 : 0 ≤ p) (h : p < q) (q1 : q < d 0 0) (ho : d 1 p = d 1 q) : paE d p ≤ paB d q := by
  obtain ⟨-, g2, -⟩ := v.2.2.2.2.1 q (by omega) q1
  have u := up2_lo (a := lyP d (d 1 q) q.toNat (ouB d (d 1 q))) g2.1 g2.2
  have := lyP_mono (o := d 1 q) (a := ouB d (d 1 q)) v (p.toNat + 1) (q.toNat - (p.toNat + 1)) (by omega)
  rw [show p.toNat + 1 + (q.toNat - (p.toNat + 1)) = q.toNat by omega] at this
  rw [paE_P p0, ho]
  unfold paB; omega
theorem plK_end (v : vLy d) (k0 : 0 ≤ k) (k1 : k < d 0 1) : plK d k + szK d k (plK d k) = lyK d (d 3 (d 11 k)) ((k - d 3 (d 11 k)).toNat + 1) (paB d (d 11 k)) := by
  obtain ⟨-, ⟨h1, h2, h3, h4⟩, -⟩ := v.2.2.2.2.2.2.1 k k0 k1
  have e : d 3 (d 11 k) + ((k - d 3 (d 11 k)).toNat : Int) = k := by omega
  show _ = lyK d (d 3 (d 11 k)) (k - d 3 (d 11 k)).toNat (paB d (d 11 k)) + szK d (d 3 (d 11 k) + ((k - d 3 (d 11 k)).toNat : Int)) (lyK d (d 3 (d 11 k)) (k - d 3 (d 11 k)).toNat (paB d (d 11 k)))
  rw [e]; rfl
/-- a piece lies within its part -/
theorem pl_pa (v : vLy d) (k0 : 0 ≤ k) (k1 : k < d 0 1) : paB d (d 11 k) ≤ plK d k ∧ plK d k + szK d k (plK d k) ≤ paE d (d 11 k) := by
  obtain ⟨-, ⟨h1, h2, h3, h4⟩, -⟩ := v.2.2.2.2.2.2.1 k k0 k1
  obtain ⟨f1, f2, f3⟩ := v.f h1 h2
  refine ⟨?_, ?_⟩
  · have := lyK_lo v f1 (k - d 3 (d 11 k)).toNat (paB d (d 11 k)) (by omega)
    unfold plK; omega
  · rw [plK_end v k0 k1]
    have := lyK_mono (a := paB d (d 11 k)) v f1 ((k - d 3 (d 11 k)).toNat + 1) ((d 4 (d 11 k) - d 3 (d 11 k)).toNat - ((k - d 3 (d 11 k)).toNat + 1)) (by omega)
    rw [show (k - d 3 (d 11 k)).toNat + 1 + ((d 4 (d 11 k) - d 3 (d 11 k)).toNat - ((k - d 3 (d 11 k)).toNat + 1)) = (d 4 (d 11 k) - d 3 (d 11 k)).toNat by omega] at this
    exact this
/-- a piece lies within its output -/
theorem pl_in (v : vLy d) (k0 : 0 ≤ k) (k1 : k < d 0 1) : ouB d (d 1 (d 11 k)) ≤ plK d k ∧ 0 ≤ szK d k (plK d k) ∧ plK d k + szK d k (plK d k) ≤ ouE d (d 1 (d 11 k)) := by
  obtain ⟨-, ⟨h1, h2, h3, h4⟩, -⟩ := v.2.2.2.2.2.2.1 k k0 k1
  have a1 := pa_in v h1 h2
  have a2 := pl_pa v k0 k1
  have z := szK_lo (a := plK d k) v k0 k1
  omega
/-- pieces of one output follow one another -/
theorem pl_lt (v : vLy d) (k0 : 0 ≤ k) (h : k < l) (l1 : l < d 0 1) (ho : d 1 (d 11 k) = d 1 (d 11 l)) : plK d k + szK d k (plK d k) ≤ plK d l := by
  obtain ⟨-, ⟨h1, h2, h3, h4⟩, -⟩ := v.2.2.2.2.2.2.1 k k0 (by omega)
  obtain ⟨-, ⟨g1, g2, g3, g4⟩, -⟩ := v.2.2.2.2.2.2.1 l (by omega) l1
  obtain ⟨f1, f2, f3⟩ := v.f h1 h2
  by_cases c : d 11 k = d 11 l
  · rw [plK_end v k0 (by omega)]
    have := lyK_mono (a := paB d (d 11 k)) v f1 ((k - d 3 (d 11 k)).toNat + 1) ((l - d 3 (d 11 k)).toNat - ((k - d 3 (d 11 k)).toNat + 1)) (by omega)
    rw [show (k - d 3 (d 11 k)).toNat + 1 + ((l - d 3 (d 11 k)).toNat - ((k - d 3 (d 11 k)).toNat + 1)) = (l - d 3 (d 11 k)).toNat by omega] at this
    unfold plK
    rw [← c]; exact this
  · by_cases c2 : d 11 k < d 11 l
    · have a1 := pl_pa v k0 (by omega)
      have a2 := pl_pa v (k := l) (by omega) l1
      have := pa_lt v h1 c2 g2 ho
      omega
    · have := v.mono g1 (d 11 k - (d 11 l + 1)).toNat (by omega)
      rw [show d 11 l + 1 + ((d 11 k - (d 11 l + 1)).toNat : Int) = d 11 k by omega] at this
      omega
end jLge
