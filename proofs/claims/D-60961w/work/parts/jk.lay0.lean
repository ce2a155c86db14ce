/-! the layout, pure: d = what is laid out. 0: parts, pieces, labels, base; of parts 1 output, 2 power, 3 first piece, 4 past the last; of pieces 5 sort, 6 n, 7 power, 8 label, 9 constant, 10 two, 11 part, 15 size (of one that moves), 16 fixed; of labels 12 piece, 13 at; 14 powers of outputs -/
set_option maxRecDepth 100000
section jLay0
variable {s t : jS} {a w k m o p v l n x : Int} {d : Int → Int → Int}
/-- the least multiple of a power of two -/
def up2 (a w : Int) : Int := (a + 2 ^ w.toNat - 1) / 2 ^ w.toNat * 2 ^ w.toNat
def szK (d : Int → Int → Int) (k a : Int) : Int := if d 5 k = 0 then d 6 k else if d 5 k = 4 then (if d 6 k < up2 a (d 7 k) - a then d 6 k else up2 a (d 7 k) - a) else d 15 k
def lyK (d : Int → Int → Int) (k : Int) : Nat → Int → Int
  | 0, a => a
  | n + 1, a => lyK d k n a + szK d (k + n) (lyK d k n a)
def lyP (d : Int → Int → Int) (o : Int) : Nat → Int → Int
  | 0, a => a
  | p + 1, a => if d 1 p = o then lyK d (d 3 p) (d 4 p - d 3 p).toNat (up2 (lyP d o p a) (d 2 p)) else lyP d o p a
def lyO (d : Int → Int → Int) : Nat → Int
  | 0 => d 0 3
  | o + 1 => lyP d o (d 0 0).toNat (up2 (lyO d o) (d 14 o))
def ouB (d : Int → Int → Int) (o : Int) : Int := up2 (lyO d o.toNat) (d 14 o)
def ouE (d : Int → Int → Int) (o : Int) : Int := lyO d (o.toNat + 1)
def paB (d : Int → Int → Int) (p : Int) : Int := up2 (lyP d (d 1 p) p.toNat (ouB d (d 1 p))) (d 2 p)
def paE (d : Int → Int → Int) (p : Int) : Int := lyK d (d 3 p) (d 4 p - d 3 p).toNat (paB d p)
def plK (d : Int → Int → Int) (k : Int) : Int := lyK d (d 3 (d 11 k)) (k - d 3 (d 11 k)).toNat (paB d (d 11 k))
/-- one that moves -/
abbrev mvK (d : Int → Int → Int) (k : Int) : Prop := d 5 k = 1 ∨ d 5 k = 2 ∨ d 5 k = 3
def grK (d : Int → Int → Int) (k : Int) : Int := if d 5 k = 1 then 8 else 4
/-- all is as it must be -/
def vLy (d : Int → Int → Int) : Prop := (0 ≤ d 0 0 ∧ d 0 0 ≤ 32) ∧ (0 ≤ d 0 1 ∧ d 0 1 ≤ 256) ∧ (0 ≤ d 0 2 ∧ d 0 2 ≤ 64) ∧ (0 ≤ d 0 3 ∧ d 0 3 ≤ 1048576) ∧
  (∀ p, 0 ≤ p → p < d 0 0 → (0 ≤ d 1 p ∧ d 1 p < 4) ∧ (0 ≤ d 2 p ∧ d 2 p ≤ 12) ∧ (0 ≤ d 3 p ∧ d 3 p ≤ d 4 p ∧ d 4 p ≤ d 0 1) ∧ d 4 p = if p + 1 < d 0 0 then d 3 (p + 1) else d 0 1) ∧ d 3 0 = 0 ∧
  (∀ k, 0 ≤ k → k < d 0 1 → (0 ≤ d 5 k ∧ d 5 k ≤ 4) ∧ (0 ≤ d 11 k ∧ d 11 k < d 0 0 ∧ d 3 (d 11 k) ≤ k ∧ k < d 4 (d 11 k)) ∧ (d 5 k = 0 → 0 ≤ d 6 k ∧ d 6 k ≤ 4096) ∧ (d 5 k = 4 → (0 ≤ d 6 k ∧ d 6 k ≤ 4096) ∧ 0 ≤ d 7 k ∧ d 7 k ≤ 12) ∧ (mvK d k → (0 ≤ d 8 k ∧ d 8 k < d 0 2) ∧ jin (d 9 k) ∧ (d 10 k = 0 ∨ d 10 k = 1) ∧ (0 ≤ d 15 k ∧ d 15 k ≤ grK d k) ∧ (d 16 k = 0 ∨ d 16 k = 1 ∧ d 15 k = grK d k))) ∧
  (∀ l, 0 ≤ l → l < d 0 2 → d 12 l = -1 ∨ (0 ≤ d 12 l ∧ d 12 l < d 0 1) ∧ 0 ≤ d 13 l ∧ d 13 l ≤ (if d 5 (d 12 l) = 0 then d 6 (d 12 l) else 1)) ∧ ∀ o, 0 ≤ o → o < 4 → 0 ≤ d 14 o ∧ d 14 o ≤ 12
theorem two_w (h0 : 0 ≤ w) (h1 : w ≤ 12) : (1 : Int) ≤ 2 ^ w.toNat ∧ (2 : Int) ^ w.toNat ≤ 4096 := by
  have : w = 0 ∨ w = 1 ∨ w = 2 ∨ w = 3 ∨ w = 4 ∨ w = 5 ∨ w = 6 ∨ w = 7 ∨ w = 8 ∨ w = 9 ∨ w = 10 ∨ w = 11 ∨ w = 12 := by omega
  rcases this with e | e | e | e | e | e | e | e | e | e | e | e | e <;> subst e <;> decide
theorem up2_lo (h0 : 0 ≤ w) (h1 : w ≤ 12) : a ≤ up2 a w ∧ up2 a w ≤ a + 4095 := by
  obtain ⟨p1, p2⟩ := two_w h0 h1
  unfold up2
  generalize (2 : Int) ^ w.toNat = z at *
  have e1 := Int.ediv_mul_le (a + z - 1) (show z ≠ 0 by omega)
  have e2 := Int.lt_ediv_add_one_mul_self (a + z - 1) (show 0 < z by omega)
  rw [Int.add_mul] at e2
  constructor <;> omega
theorem c_up (a0 : 0 ≤ a) (a1 : a ≤ 1000000000) (h0 : 0 ≤ w) (h1 : w ≤ 12) : m_X36_up s a w = some (up2 a w) := by
  obtain ⟨p1, p2⟩ := two_w h0 h1
  have u := up2_lo (a := a) h0 h1
  rw [em_X36_up]; unfold dm_X36_up
  have hs : I_shl 1 w = 2 ^ w.toNat := by rw [i_shl_p h0 (by omega), Int.one_mul, W32_in (by omega) (by omega)]
  rw [hs, W32_in (z := a + 2 ^ w.toNat) (by omega) (by omega), W32_in (by omega) (by omega), i_shr_p (by omega) h0 (by omega), i_shl_p h0 (by omega)]
  unfold up2 at *
  rw [W32_in (by omega) (by omega)]
theorem t_up (a0 : 0 ≤ a) (a1 : a ≤ 1000000000) (h0 : 0 ≤ w) (h1 : w ≤ 12) : m_X41_roundUp t a (2 ^ w.toNat) = some (up2 a w) := by
  obtain ⟨p1, p2⟩ := two_w h0 h1
  have u := up2_lo (a := a) h0 h1
  rw [em_X41_roundUp]; unfold dm_X41_roundUp
  rw [W32_in (z := a + 2 ^ w.toNat) (by omega) (by omega), W32_in (z := a + 2 ^ w.toNat - 1) (by omega) (by omega), I_div_n (by omega) (by omega) (by omega) (by omega)]
  unfold jdv
  unfold up2 at *
  rw [if_neg (by omega), Option.bind_some, W32_in (by omega) (by omega)]
theorem one_shl (h0 : 0 ≤ w) (h1 : w ≤ 12) : I_shl 1 w = 2 ^ w.toNat := by
  obtain ⟨p1, p2⟩ := two_w h0 h1
  rw [i_shl_p h0 (by omega), Int.one_mul, W32_in (by omega) (by omega)]
/-- bounds -/
theorem szK_lo (v : vLy d) (k0 : 0 ≤ k) (k1 : k < d 0 1) : 0 ≤ szK d k a ∧ szK d k a ≤ 4096 := by
  obtain ⟨-, -, -, -, -, -, hk, -⟩ := v
  obtain ⟨h5, h11, h6, h7, hm⟩ := hk k k0 k1
  unfold szK
  by_cases c0 : d 5 k = 0
  · rw [if_pos c0]; exact h6 c0
  by_cases c4 : d 5 k = 4
  · obtain ⟨g1, g2, g3⟩ := h7 c4
    have u := up2_lo (a := a) g2 g3
    rw [if_neg c0, if_pos c4]
    split <;> omega
  · rw [if_neg c0, if_neg c4]
    obtain ⟨-, -, -, g, -⟩ := hm (by unfold mvK; omega)
    unfold grK at g
    split at g <;> omega
theorem lyK_lo (v : vLy d) (k0 : 0 ≤ k) : ∀ (n : Nat) (a : Int), k + n ≤ d 0 1 → a ≤ lyK d k n a ∧ lyK d k n a ≤ a + 4096 * n
  | 0, a, _ => ⟨Int.le_refl _, by show a ≤ _; omega⟩
  | n + 1, a, h => by
    obtain ⟨i1, i2⟩ := lyK_lo v k0 n a (by omega)
    have := szK_lo (k := k + n) (a := lyK d k n a) v (by omega) (by omega)
    show a ≤ lyK d k n a + szK d (k + n) (lyK d k n a) ∧ lyK d k n a + szK d (k + n) (lyK d k n a) ≤ _
    omega
/-- where a part's pieces begin -/
theorem vLy.f (v : vLy d) (p0 : 0 ≤ p) (p1 : p < d 0 0) : 0 ≤ d 3 p ∧ d 3 p ≤ d 4 p ∧ d 4 p ≤ d 0 1 := (v.2.2.2.2.1 p p0 p1).2.2.1
theorem lyP_lo (v : vLy d) : ∀ (p : Nat) (a : Int), (p : Int) ≤ d 0 0 → a ≤ lyP d o p a ∧ lyP d o p a ≤ a + 4096 * p + 4096 * (if (p : Int) < d 0 0 then d 3 p else d 0 1)
  | 0, a, h => by
    have := v.2.1.1
    refine ⟨Int.le_refl _, ?_⟩
    show a ≤ _
    rw [show ((0 : Nat) : Int) = 0 from rfl, v.2.2.2.2.2.1]
    split <;> omega
  | p + 1, a, h => by
    obtain ⟨i1, i2⟩ := lyP_lo v p a (by omega)
    obtain ⟨f1, f2, f3⟩ := v.f (p := p) (by omega) (by omega)
    obtain ⟨g1, g2, g3, g4⟩ := v.2.2.2.2.1 p (by omega) (by omega)
    rw [if_pos (by omega)] at i2
    have e : (((p + 1 : Nat) : Int)) = p + 1 := by omega
    rw [e, ← g4]
    show a ≤ (if d 1 p = o then _ else _) ∧ (if d 1 p = o then _ else _) ≤ _
    by_cases c : d 1 p = o
    · rw [if_pos c]
      have u := up2_lo (a := lyP d o p a) g2.1 g2.2
      have := lyK_lo v f1 (d 4 p - d 3 p).toNat (up2 (lyP d o p a) (d 2 p)) (by omega)
      omega
    · rw [if_neg c]; omega
theorem lyO_lo (v : vLy d) : ∀ (o : Nat), (o : Int) ≤ 4 → 0 ≤ lyO d o ∧ lyO d o ≤ 1048576 + 1183744 * o
  | 0, h => by
    have := v.2.2.2.1
    show 0 ≤ d 0 3 ∧ d 0 3 ≤ _
    omega
  | o + 1, h => by
    obtain ⟨i1, i2⟩ := lyO_lo v o (by omega)
    obtain ⟨h1, h2⟩ := v.2.2.2.2.2.2.2.2 o (by omega) (by omega)
    have u := up2_lo (a := lyO d o) h1 h2
    have q := lyP_lo (o := o) v (d 0 0).toNat (up2 (lyO d o) (d 14 o)) (by have := v.1; omega)
    rw [if_neg (by have := v.1; omega)] at q
    have := v.1; have := v.2.1
    show 0 ≤ lyP d o (d 0 0).toNat (up2 (lyO d o) (d 14 o)) ∧ lyP d o (d 0 0).toNat (up2 (lyO d o) (d 14 o)) ≤ _
    omega
theorem ouB_lo (v : vLy d) (o0 : 0 ≤ o) (o1 : o < 4) : 0 ≤ ouB d o ∧ ouB d o ≤ 4700000 := by
  obtain ⟨h1, h2⟩ := v.2.2.2.2.2.2.2.2 o o0 o1
  have i := lyO_lo v o.toNat (by omega)
  have u := up2_lo (a := lyO d o.toNat) h1 h2
  unfold ouB
  omega
theorem ouE_lo (v : vLy d) (o0 : 0 ≤ o) (o1 : o < 4) : ouB d o ≤ ouE d o ∧ ouE d o ≤ 5783552 := by
  have i := lyO_lo v (o.toNat + 1) (by omega)
  have q := lyP_lo (o := (o.toNat : Int)) v (d 0 0).toNat (up2 (lyO d o.toNat) (d 14 (o.toNat : Int))) (by have := v.1; omega)
  have e : ((o.toNat : Nat) : Int) = o := by omega
  refine ⟨?_, by unfold ouE; omega⟩
  unfold ouB ouE
  show _ ≤ lyP d (o.toNat : Int) (d 0 0).toNat (up2 (lyO d o.toNat) (d 14 (o.toNat : Int)))
  rw [e] at q ⊢
  exact q.1
/-- the end of the parts ahead -/
theorem lyP_in (v : vLy d) (o0 : 0 ≤ o) (o1 : o < 4) (p0 : 0 ≤ p) (p1 : p ≤ d 0 0) : 0 ≤ lyP d o p.toNat (ouB d o) ∧ lyP d o p.toNat (ouB d o) ≤ 6000000 := by
  have u := ouB_lo v o0 o1
  have q := lyP_lo (o := o) v p.toNat (ouB d o) (by omega)
  have e : ((p.toNat : Nat) : Int) = p := by omega
  have := v.1; have := v.2.1
  rw [e] at q
  by_cases c : p < d 0 0
  · rw [if_pos c] at q; have := v.f p0 c; omega
  · rw [if_neg c] at q; omega
theorem paB_lo (v : vLy d) (p0 : 0 ≤ p) (p1 : p < d 0 0) : 0 ≤ paB d p ∧ paB d p ≤ 6004095 := by
  obtain ⟨g1, g2, -⟩ := v.2.2.2.2.1 p p0 p1
  have := lyP_in v g1.1 g1.2 p0 (by omega)
  have u := up2_lo (a := lyP d (d 1 p) p.toNat (ouB d (d 1 p))) g2.1 g2.2
  unfold paB
  omega
theorem ly_at (v : vLy d) (p0 : 0 ≤ p) (p1 : p < d 0 0) (n : Nat) (hn : d 3 p + n ≤ d 4 p) : 0 ≤ lyK d (d 3 p) n (paB d p) ∧ lyK d (d 3 p) n (paB d p) ≤ 7100000 := by
  have b := paB_lo v p0 p1
  obtain ⟨f1, f2, f3⟩ := v.f p0 p1
  have := lyK_lo v f1 n (paB d p) (by omega)
  have := v.2.1
  omega
theorem plK_lo (v : vLy d) (k0 : 0 ≤ k) (k1 : k < d 0 1) : 0 ≤ plK d k ∧ plK d k ≤ 7100000 := by
  obtain ⟨-, ⟨h1, h2, h3, h4⟩, -⟩ := v.2.2.2.2.2.2.1 k k0 k1
  exact ly_at v h1 h2 (k - d 3 (d 11 k)).toNat (by omega)
end jLay0
