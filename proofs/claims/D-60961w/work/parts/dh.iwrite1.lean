/-! writing an image: the file that is owed; the component's bytes, its head, a row -/
section jIwrite
variable {s t u w : jS} {B N R n p f a b x y e k z v d lo m S O : Int} {g g' : Int → Int} {i j : Int → Int → Int → Int}
/-- rows ahead of a part's; areas: where a part ends, begins -/
def rI (i : Int → Int → Int → Int) (x : Int) : Int := if x = 0 then 0 else if x = 1 then i 1 0 0 else if x = 2 then i 1 0 0 + i 1 1 0 else i 1 0 0 + i 1 1 0 + i 1 2 0
def aL (p st pg : Int) : Int := p + (st - p) % pg
def eN (i : Int → Int → Int → Int) : Nat → Int
  | 0 => 52 + 32 * (rI i 3 + 1)
  | m + 1 => if i 1 m 0 = 0 then eN i m else aL (eN i m) (i 1 m 1) (i 2 1 0) + i 1 m 2
def eI (i : Int → Int → Int → Int) (x : Int) : Int := eN i x.toNat
def bI (i : Int → Int → Int → Int) (x : Int) : Int := aL (eI i x) (i 1 x 1) (i 2 1 0)
theorem eI_s (x0 : 0 ≤ x) : eI i (x + 1) = if i 1 x 0 = 0 then eI i x else bI i x + i 1 x 2 := by
  unfold eI bI eI
  rw [show (x + 1).toNat = x.toNat + 1 by omega]
  show (if i 1 (x.toNat : Nat) 0 = 0 then eN i x.toNat else aL (eN i x.toNat) (i 1 (x.toNat : Nat) 1) (i 2 1 0) + i 1 (x.toNat : Nat) 2) = _
  rw [nt x0]
def ntI (i : Int → Int → Int → Int) : Int := up4 (eI i 3)
def nlI (i : Int → Int → Int → Int) : Int := 28 + up4 (mkN i)
def ttI (i : Int → Int → Int → Int) : Int := ntI i + nlI i
def rgI (x : Int) : Int := if x = 0 then 5 else if x = 1 then 4 else 6
def hvI (i : Int → Int → Int → Int) : Int := if 0 < cn (ctI i 1) (if i 1 0 0 = 0 then 0 else i 1 0 2 / 2) then 1 else 0
def pIh (i : Int → Int → Int → Int) (g : Int → Int) : Prop := B4 g 0 1179403647 ∧ B4 g 4 65793 ∧ (∀ k, 8 ≤ k → k < 16 → g k = 0) ∧ B2 g 16 2 ∧ B2 g 18 243 ∧ B4 g 20 1 ∧ B4 g 24 (i 2 0 0) ∧ B4 g 28 52 ∧ B4 g 32 0 ∧ B4 g 36 (hvI i) ∧ B2 g 40 52 ∧ B2 g 42 32 ∧ B2 g 44 (rI i 3 + 1) ∧ ∀ k, 46 ≤ k → k < 52 → g k = 0
/-- a row of numbers -/
def pRw (g : Int → Int) (p a b c d e f h : Int) : Prop := B4 g p a ∧ B4 g (p + 4) b ∧ B4 g (p + 8) c ∧ B4 g (p + 12) c ∧ B4 g (p + 16) d ∧ B4 g (p + 20) e ∧ B4 g (p + 24) f ∧ B4 g (p + 28) h
def pIr (i : Int → Int → Int → Int) (g : Int → Int) (x : Int) : Prop := pRw g (52 + 32 * rI i x) 1 (bI i x) (i 1 x 1) (i 1 x 2) (i 1 x 2 + i 1 x 3) (rgI x) (i 2 1 0)
def pIb (i : Int → Int → Int → Int) (g : Int → Int) (x : Int) : Prop := (∀ k, eI i x ≤ k → k < bI i x → g k = 0) ∧ ∀ k, 0 ≤ k → k < i 1 x 2 → g (bI i x + k) = i 0 x k
noncomputable def pIo (i : Int → Int → Int → Int) (g : Int → Int) : Prop := (∀ k, eI i 3 ≤ k → k < ntI i → g k = 0) ∧ B4 g (ntI i) 6 ∧ B4 g (ntI i + 4) (nlI i - 20) ∧ B4 g (ntI i + 8) 1 ∧ B4 g (ntI i + 12) 1802658125 ∧ B4 g (ntI i + 16) 115 ∧ B4 g (ntI i + 20) (i 1 0 2 / 2) ∧ B4 g (ntI i + 24) (sumI i) ∧ (∀ k, 0 ≤ k → k < mkN i → g (ntI i + 28 + k) = mkB (fun k => i 3 k 0) k) ∧ ∀ k, ntI i + 28 + mkN i ≤ k → k < ttI i → g k = 0
/-- the file -/
noncomputable def pIm (i : Int → Int → Int → Int) (g : Int → Int) : Prop := pIh i g ∧ (∀ x, 0 ≤ x → x < 3 → ¬ i 1 x 0 = 0 → pIr i g x ∧ pIb i g x) ∧ pRw g (52 + 32 * rI i 3) 4 (ntI i) 0 (nlI i) 0 4 4 ∧ pIo i g
/-- bounds of it -/
theorem aL_lo (h : 0 < d) : p ≤ aL p x d ∧ aL p x d < p + d := by
  have := Int.emod_nonneg (x - p) (show d ≠ 0 by omega)
  have := Int.emod_lt_of_pos (x - p) h
  unfold aL; omega
theorem rI_lo (v : vIm i) (x0 : 0 ≤ x) (x1 : x ≤ 3) : 0 ≤ rI i x ∧ rI i x ≤ x ∧ rI i x ≤ rI i 3 ∧ (x < 3 → rI i (x + 1) = rI i x + i 1 x 0) := by
  have a := (v.1 0 (by omega) (by omega)).1
  have b := (v.1 1 (by omega) (by omega)).1
  have c := (v.1 2 (by omega) (by omega)).1
  have : x = 0 ∨ x = 1 ∨ x = 2 ∨ x = 3 := by omega
  rcases this with e | e | e | e <;> subst e
  · exact ⟨Int.le_refl _, Int.le_refl _, by show (0 : Int) ≤ i 1 0 0 + i 1 1 0 + i 1 2 0; omega, fun _ => by show i 1 0 0 = 0 + i 1 0 0; omega⟩
  · exact ⟨by show 0 ≤ i 1 0 0; omega, by show i 1 0 0 ≤ 1; omega, by show i 1 0 0 ≤ i 1 0 0 + i 1 1 0 + i 1 2 0; omega, fun _ => rfl⟩
  · exact ⟨by show 0 ≤ i 1 0 0 + i 1 1 0; omega, by show i 1 0 0 + i 1 1 0 ≤ 2; omega, by show i 1 0 0 + i 1 1 0 ≤ i 1 0 0 + i 1 1 0 + i 1 2 0; omega, fun _ => rfl⟩
  · exact ⟨by show 0 ≤ i 1 0 0 + i 1 1 0 + i 1 2 0; omega, by show i 1 0 0 + i 1 1 0 + i 1 2 0 ≤ 3; omega, Int.le_refl _, fun h => by omega⟩
theorem eI_lo (v : vIm i) (x0 : 0 ≤ x) (x1 : x ≤ 3) : 52 + 32 * (rI i 3 + 1) ≤ eI i x ∧ eI i x ≤ 180 + 8192 * x ∧ (x < 3 → eI i x ≤ eI i (x + 1)) := by
  have r := rI_lo v (x := 3) (by omega) (by omega)
  have pg := v.2.2.1.lo
  have st : ∀ x, 0 ≤ x → x < 3 → eI i x ≤ eI i (x + 1) ∧ eI i (x + 1) ≤ eI i x + 8192 := fun x x0 x1 => by
    rw [eI_s x0]
    by_cases c : i 1 x 0 = 0
    · rw [if_pos c]; omega
    · have := aL_lo (p := eI i x) (x := i 1 x 1) (d := i 2 1 0) (by omega)
      have := (v.1 x x0 x1).2 c
      rw [if_neg c]; unfold bI; omega
  have e0 : eI i 0 = 52 + 32 * (rI i 3 + 1) := rfl
  have s0 := st 0 (by omega) (by omega)
  have s1 := st 1 (by omega) (by omega)
  have s2 := st 2 (by omega) (by omega)
  simp only [show (0 : Int) + 1 = 1 from rfl, show (1 : Int) + 1 = 2 from rfl, show (2 : Int) + 1 = 3 from rfl] at s0 s1 s2
  have : x = 0 ∨ x = 1 ∨ x = 2 ∨ x = 3 := by omega
  rcases this with e | e | e | e <;> subst e
  · exact ⟨by omega, by omega, fun _ => s0.1⟩
  · exact ⟨by omega, by omega, fun _ => s1.1⟩
  · exact ⟨by omega, by omega, fun _ => s2.1⟩
  · exact ⟨by omega, by omega, fun h => by omega⟩
theorem bI_lo (v : vIm i) (x0 : 0 ≤ x) (x1 : x < 3) (c : ¬ i 1 x 0 = 0) : eI i x ≤ bI i x ∧ bI i x < eI i x + i 2 1 0 ∧ eI i (x + 1) = bI i x + i 1 x 2 := by
  have pg := v.2.2.1.lo
  have := aL_lo (p := eI i x) (x := i 1 x 1) (d := i 2 1 0) (by omega)
  exact ⟨this.1, this.2, by rw [eI_s x0, if_neg c]⟩
/-- bytes written so far -/
def iw (s : jS) (B : Int) (g : Int → Int) (p : Int) : Prop := jf s 29 B 1 = p ∧ 0 ≤ p ∧ ∀ k, 0 ≤ k → k < p → (0 ≤ g k ∧ g k < 256) ∧ (k < 16384 → jf s 1001 (B + 1) k = sb (g k))
theorem iw.kf {lo n : Int} (h : iw s B g p) (k : jFx s t lo n) (d : B + 2 ≤ lo ∨ lo + n ≤ B) : iw t B g p := ⟨by rw [k.F (by omega)]; exact h.1, h.2.1, fun j j0 j1 => ⟨(h.2.2 j j0 j1).1, fun q => by rw [k.F (by omega)]; exact (h.2.2 j j0 j1).2 q⟩⟩
theorem iw.eq (h : iw s B g p) (e : ∀ k, 0 ≤ k → k < p → g' k = g k) : iw s B g' p := ⟨h.1, h.2.1, fun j j0 j1 => by rw [e j j0 j1]; exact h.2.2 j j0 j1⟩
theorem i_p1 (h : iw s B g p) (hp : p ≤ 100000) (v : Int) : jE (m_X25_put1 s B v) fun q => jFx s q.1 B 2 ∧ iw q.1 B (gNb g p 1 v) (p + 1) := by
  obtain ⟨h1, h2, h3⟩ := h
  rw [em_X25_put1]; unfold dm_X25_put1
  rw [h1]
  have e23 : ∀ t, jf t 29 B 1 = p → u_X25_put1_23 t B = some (jp t 29 B 1 (p + 1), 0) := fun t ht => by
    rw [eu_X25_put1_23]; unfold du_X25_put1_23
    simp only [jls]
    rw [ht, W32_in (by omega) (by omega)]
  have v0 : 0 ≤ v % 256 ∧ v % 256 < 256 := by omega
  by_cases c : p < 16384
  · rw [if_pos c, jst_in h2 c, Option.bind_some, e23 _ (by (repeat (first | rw [jf_neg (by omega)] | rw [jf_pos (by omega)] | rw [ou_neg (by omega)] | rw [ou_pos (by omega)])); exact h1), W8_W8]
    refine jS_end ⟨(jFx.rfl.jp rfl (by omega) (by omega)).jp rfl (by omega) (by omega), jf_pos ⟨rfl, rfl, rfl⟩, by omega, fun k k0 k1 => ?_⟩
    by_cases ck : k = p
    · subst ck
      rw [gN_1]
      exact ⟨v0, fun _ => by rw [jf_neg (by omega), jf_pos ⟨rfl, rfl, rfl⟩]⟩
    · rw [gN_lo (by omega)]
      exact ⟨(h3 k k0 (by omega)).1, fun q => by rw [jf_neg (by omega), jf_neg (by omega)]; exact (h3 k k0 (by omega)).2 q⟩
  · rw [if_neg c, e23 _ h1]
    refine jS_end ⟨jFx.rfl.jp rfl (by omega) (by omega), jf_pos ⟨rfl, rfl, rfl⟩, by omega, fun k k0 k1 => ?_⟩
    by_cases ck : k = p
    · subst ck
      rw [gN_1]
      exact ⟨v0, fun q => by omega⟩
    · rw [gN_lo (by omega)]
      exact ⟨(h3 k k0 (by omega)).1, fun q => by rw [jf_neg (by omega)]; exact (h3 k k0 (by omega)).2 q⟩
theorem i_p2 (h : iw s B g p) (hp : p ≤ 99000) (hv : jin v) : jE (m_X25_put2 s B v) fun q => jFx s q.1 B 2 ∧ iw q.1 B (gNb g p 2 v) (p + 2) := by
  have hv := jin_p.mp hv
  rw [em_X25_put2]; unfold dm_X25_put2
  have e8 : I_shr v 8 = v / 256 := i_shr_p (by omega) (by omega) (by omega)
  refine jS_call (i_p1 h (by omega) v) fun q1 ⟨k1, w1⟩ => jS_call (i_p1 w1 (by omega) _) fun q2 ⟨k2, w2⟩ => jS_end ⟨k1.trans k2, ?_⟩
  rw [show p + 1 + 1 = p + 2 by omega] at w2
  refine w2.eq fun k k0 k1 => ?_
  by_cases c1 : k = p + 1
  · subst c1
    rw [gN_1, e8, gN_2.2]
  · rw [gN_lo (p := p + 1) (by omega)]
    by_cases c2 : k = p
    · subst c2
      rw [gN_1, gN_2.1]
    · rw [gN_lo (by omega), gN_lo (by omega)]
theorem i_p4 (h : iw s B g p) (hp : p ≤ 98000) (hv : jin v) : jE (m_X25_put4 s B v) fun q => jFx s q.1 B 2 ∧ iw q.1 B (gNb g p 4 v) (p + 4) := by
  have hv' := jin_p.mp hv
  rw [em_X25_put4]; unfold dm_X25_put4
  have e16 : I_shr v 16 = v / 65536 := i_shr_p (by omega) (by omega) (by omega)
  refine jS_call (i_p2 h (by omega) hv) fun q1 ⟨k1, w1⟩ => jS_call (i_p2 w1 (by omega) (v := I_shr v 16) (by rw [e16]; exact ⟨by omega, by omega⟩)) fun q2 ⟨k2, w2⟩ => jS_end ⟨k1.trans k2, ?_⟩
  rw [show p + 2 + 2 = p + 4 by omega] at w2
  refine w2.eq fun k k0 k1 => ?_
  have a2 := gN_2 (g := gNb g p 2 v) (p := p + 2) (v := I_shr v 16)
  have b2 := gN_2 (g := g) (p := p) (v := v)
  have a4 := gN_4 (g := g) (p := p) (v := v)
  obtain ⟨z1, z2⟩ := a2
  obtain ⟨y1, y2⟩ := b2
  obtain ⟨x1, x2, x3, x4⟩ := a4
  by_cases c3 : k = p + 3
  · subst c3
    rw [x4, show p + 3 = p + 2 + 1 by omega, z2, e16]; omega
  by_cases c2 : k = p + 2
  · subst c2
    rw [x3, z1, e16]
  by_cases c1 : k = p + 1
  · subst c1
    rw [x2, gN_lo (by omega), y2]
  by_cases c0 : k = p
  · subst c0
    rw [x1, gN_lo (by omega), y1]
  · rw [gN_lo (by omega), gN_lo (by omega), gN_lo (by omega)]
theorem i_s4' (h : iw s B g p) (hv : jin v) (a0 : 0 ≤ a) (a1 : a + 4 ≤ p) (a2 : a + 4 ≤ 16384) : jE (m_X25_set4 s B a v) fun q => jFx s q.1 B 2 ∧ iw q.1 B (gNb g a 4 v) p := by
  have hv' := jin_p.mp hv
  obtain ⟨h1, h2, h3⟩ := h
  rw [em_X25_set4]; unfold dm_X25_set4
  rw [eu_X25_set4_2]; unfold du_X25_set4_2
  refine jS_for (fun m t => jFx s t B 2 ∧ iw t B (gNb g a m v) p) (fun m => [B, a, v, m]) 0 4 (by omega) ⟨jFx.rfl, h1, h2, fun k k0 k1 => by rw [gN_lo (by omega)]; exact h3 k k0 k1⟩ (fun m t m0 m1 ⟨k, w1, w2, w3⟩ => ?_) (fun t ⟨k, w⟩ => ?_)
  · show jE (b_X25_set4_2 t B a v m) _
    unfold b_X25_set4_2
    have eb : W8 (W8 (I_shr v (W32 (8 * m)))) = sb (by4 v m) := by
      rw [W8_W8, W32_in (by omega) (by omega), i_shr_p (by omega) (by omega) (by omega)]
      have : m = 0 ∨ m = 1 ∨ m = 2 ∨ m = 3 := by omega
      rcases this with e | e | e | e <;> subst e <;> rfl
    rw [if_pos m1, W32_in (z := a + m) (by omega) (by omega), jst_in (by omega) (by omega), Option.bind_some, eb, W32_in (by omega) (by omega)]
    refine jS_end ⟨rfl, k.jp rfl (by omega) (by omega), by (repeat (first | rw [jf_neg (by omega)] | rw [jf_pos (by omega)] | rw [ou_neg (by omega)] | rw [ou_pos (by omega)])); exact w1, w2, fun k' k0 k1 => ?_⟩
    by_cases c : k' = a + m
    · have e : gNb g a (m + 1) v k' = by4 v m := by unfold gNb; rw [if_pos (by omega), c, show a + m - a = m by omega]
      rw [e]
      exact ⟨by4_lo m, fun _ => jf_pos ⟨rfl, rfl, c⟩⟩
    · have e : gNb g a (m + 1) v k' = gNb g a m v k' := by
        unfold gNb
        by_cases c2 : a ≤ k' ∧ k' < a + m
        · rw [if_pos c2, if_pos (by omega)]
        · rw [if_neg c2, if_neg (by omega)]
      rw [e]
      exact ⟨(w3 k' k0 k1).1, fun q => by rw [jf_neg (by omega)]; exact (w3 k' k0 k1).2 q⟩
  · show jE (b_X25_set4_2 t B a v 4) _
    unfold b_X25_set4_2
    rw [if_neg (by omega)]
    exact jS_inr (jS_end ⟨k, w⟩)
/-- a row -/
theorem pRw.of {a b c d e f h : Int} (r : pRw g p a b c d e f h) (q : ∀ k, p ≤ k → k < p + 32 → g' k = g k) : pRw g' p a b c d e f h := by
  obtain ⟨r1, r2, r3, r4, r5, r6, r7, r8⟩ := r
  exact ⟨r1.of fun k k0 k1 => q k (by omega) (by omega), r2.of fun k k0 k1 => q k (by omega) (by omega), r3.of fun k k0 k1 => q k (by omega) (by omega), r4.of fun k k0 k1 => q k (by omega) (by omega), r5.of fun k k0 k1 => q k (by omega) (by omega), r6.of fun k k0 k1 => q k (by omega) (by omega), r7.of fun k k0 k1 => q k (by omega) (by omega), r8.of fun k k0 k1 => q k (by omega) (by omega)⟩
theorem i_wrow {a b c d e f : Int} (h : iw s (R + 1) g p) (hp : p ≤ 90000) (ha : jin a) (hb : jin b) (hc : jin c) (hd : jin d) (he : jin e) (hf : jin f) : jE (m_X26_row s R a b c d e f) fun q => jFx s q.1 (R + 1) 2 ∧ ∃ g', iw q.1 (R + 1) g' (p + 32) ∧ (∀ k, k < p → g' k = g k) ∧ pRw g' p a 0 b c d e f := by
  have j0 : jin 0 := ⟨by omega, by omega⟩
  rw [em_X26_row]; unfold dm_X26_row
  refine jS_call (i_p4 h (by omega) ha) fun q1 ⟨k1, w1⟩ => jS_call (i_p4 w1 (by omega) j0) fun q2 ⟨k2, w2⟩ => jS_call (i_p4 w2 (by omega) hb) fun q3 ⟨k3, w3⟩ => jS_call (i_p4 w3 (by omega) hb) fun q4 ⟨k4, w4⟩ => jS_call (i_p4 w4 (by omega) hc) fun q5 ⟨k5, w5⟩ => jS_call (i_p4 w5 (by omega) hd) fun q6 ⟨k6, w6⟩ => jS_call (i_p4 w6 (by omega) he) fun q7 ⟨k7, w7⟩ => jS_call (i_p4 w7 (by omega) hf) fun q8 ⟨k8, w8⟩ => ?_
  refine jS_end ⟨k1.trans (k2.trans (k3.trans (k4.trans (k5.trans (k6.trans (k7.trans k8)))))), _, by rw [show p + 32 = p + 4 + 4 + 4 + 4 + 4 + 4 + 4 + 4 by omega]; exact w8, fun k hk => ?_, ?_, ?_, ?_, ?_, ?_, ?_, ?_, ?_⟩
  · rw [gN_lo (by omega), gN_lo (by omega), gN_lo (by omega), gN_lo (by omega), gN_lo (by omega), gN_lo (by omega), gN_lo (by omega), gN_lo (by omega)]
  · repeat (first | exact gN_4 | refine B4.gn ?_ (by omega))
  · repeat (first | exact gN_4 | refine B4.gn ?_ (by omega))
  · rw [show p + 8 = p + 4 + 4 by omega]; repeat (first | exact gN_4 | refine B4.gn ?_ (by omega))
  · rw [show p + 12 = p + 4 + 4 + 4 by omega]; repeat (first | exact gN_4 | refine B4.gn ?_ (by omega))
  · rw [show p + 16 = p + 4 + 4 + 4 + 4 by omega]; repeat (first | exact gN_4 | refine B4.gn ?_ (by omega))
  · rw [show p + 20 = p + 4 + 4 + 4 + 4 + 4 by omega]; repeat (first | exact gN_4 | refine B4.gn ?_ (by omega))
  · rw [show p + 24 = p + 4 + 4 + 4 + 4 + 4 + 4 by omega]; repeat (first | exact gN_4 | refine B4.gn ?_ (by omega))
  · rw [show p + 28 = p + 4 + 4 + 4 + 4 + 4 + 4 + 4 by omega]; exact gN_4
end jIwrite
