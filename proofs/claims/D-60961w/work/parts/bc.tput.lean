/-! the twin writes a file: the bytes -/
section jTput
variable {s t u : jS} {X x y n p v : Int} {o : Int → Int → Int → Int} {g g' : Int → Int}
/-- bytes of a number, the lowest first -/
def by4 (v : Int) (i : Int) : Int := v / 256 ^ i.toNat % 256
def B2 (g : Int → Int) (p v : Int) : Prop := g p = v % 256 ∧ g (p + 1) = v / 256 % 256
def B4 (g : Int → Int) (p v : Int) : Prop := g p = v % 256 ∧ g (p + 1) = v / 256 % 256 ∧ g (p + 2) = v / 65536 % 256 ∧ g (p + 3) = v / 16777216 % 256
theorem B2.of (h : B2 g p v) (e : ∀ q, p ≤ q → q < p + 2 → g' q = g q) : B2 g' p v := ⟨by rw [e _ (by omega) (by omega)]; exact h.1, by rw [e _ (by omega) (by omega)]; exact h.2⟩
theorem B4.of (h : B4 g p v) (e : ∀ q, p ≤ q → q < p + 4 → g' q = g q) : B4 g' p v := ⟨by rw [e _ (by omega) (by omega)]; exact h.1, by rw [e _ (by omega) (by omega)]; exact h.2.1, by rw [e _ (by omega) (by omega)]; exact h.2.2.1, by rw [e _ (by omega) (by omega)]; exact h.2.2.2⟩
theorem by4_0 : by4 v 0 = v % 256 := by unfold by4; rw [show (0 : Int).toNat = 0 from rfl, Int.pow_zero, Int.ediv_one]
theorem by4_1 : by4 v 1 = v / 256 % 256 := by unfold by4; rw [show (1 : Int).toNat = 1 from rfl, Int.pow_one]
theorem by4_2 : by4 v 2 = v / 65536 % 256 := by unfold by4; rw [show (2 : Int).toNat = 2 from rfl]; rfl
theorem by4_3 : by4 v 3 = v / 16777216 % 256 := by unfold by4; rw [show (3 : Int).toNat = 3 from rfl]; rfl
/-- only the file is written -/
def fFl (s t : jS) (X : Int) : Prop := jSm s t ∧ ∀ c a k, ¬ (c = 1000 ∧ a = X + 21) → jf t c a k = jf s c a k
theorem fFl.rfl : fFl s s X := ⟨jSm.rfl, fun _ _ _ _ => Eq.refl _⟩
theorem fFl.trans (h : fFl s t X) (g : fFl t u X) : fFl s u X := ⟨h.1.trans g.1, fun c a k p => (g.2 c a k p).trans (h.2 c a k p)⟩
theorem fFl.jp {k v : Int} (h : fFl s t X) : fFl s (jp t 1000 (X + 21) k v) X := ⟨h.1.jp, fun c' a' k' p => by rw [jf_jp, if_neg (by omega)]; exact h.2 c' a' k' p⟩
theorem fFl.jw {lo n : Int} {e : Int → Int} (h : fFl s t X) : fFl s (jfil t 1000 (X + 21) lo n e) X := ⟨h.1, fun c' a' k' p => by rw [jfl_neg (by omega)]; exact h.2 c' a' k' p⟩
theorem fFl.r (h : fFl s t X) {a : Int} (e : ¬ a = X + 21) (k : Int) : jf t 1000 a k = jf s 1000 a k := h.2 _ _ _ (by omega)
theorem fFl.i (h : fFl s t X) (k : Int) : jf t 44 X k = jf s 44 X k := h.2 _ _ _ (by omega)
theorem t_w1 (h0 : 0 ≤ p) (h1 : p < 8192) : m_X40_write1 s X p v = some (jp s 1000 (X + 21) p (v % 256), 0) := by
  rw [em_X40_write1]; unfold dm_X40_write1
  rw [I_and_255, jst_in h0 h1, Option.bind_some]
theorem t_w2 (h0 : 0 ≤ p) (h1 : p + 1 < 8192) (hv : jin v) : m_X40_write2 s X p v = some (jfil s 1000 (X + 21) p 2 (by4 v), 0) := by
  rw [em_X40_write2]; unfold dm_X40_write2
  unfold jin at hv
  rw [t_w1 h0 (by omega), Option.bind_some, W32_in (by omega) (by omega), i_shr_p hv (by omega) (by omega), t_w1 (by omega) h1, Option.bind_some]
  have e0 : jfil s 1000 (X + 21) p 0 (by4 v) = s := jfil_0 _ _ _ _ _ _ (by omega)
  have e1 := jfil_s (s := s) (c := 1000) (a := X + 21) (lo := p) (k := 0) (e := by4 v) (by omega)
  have e2 := jfil_s (s := s) (c := 1000) (a := X + 21) (lo := p) (k := 1) (e := by4 v) (by omega)
  rw [e0, by4_0, Int.add_zero] at e1
  rw [← show (0 : Int) + 1 = 1 by omega, ← e1, show (0 : Int) + 1 = 1 by omega, by4_1] at e2
  rw [show v / 2 ^ (8 : Int).toNat % 256 = v / 256 % 256 from rfl, e2]; rfl
theorem t_w4 (h0 : 0 ≤ p) (h1 : p + 3 < 8192) (hv : jin v) : m_X40_write4 s X p v = some (jfil s 1000 (X + 21) p 4 (by4 v), 0) := by
  rw [em_X40_write4]; unfold dm_X40_write4
  have hv' := hv
  unfold jin at hv
  have e16 : I_shr v 16 = v / 65536 := i_shr_p hv (by omega) (by omega)
  rw [t_w2 h0 (by omega) hv', Option.bind_some, W32_in (by omega) (by omega), e16, t_w2 (by omega) (by omega) (by unfold jin; omega), Option.bind_some]
  refine congrArg (fun q => some (q, (0 : Int))) ?_
  unfold jfil
  rw [jw_jw]
  refine jw_ext fun c a k => ?_
  rw [jf_jw]
  by_cases c1 : c = 1000 ∧ a = X + 21 ∧ p + 2 ≤ k ∧ k < p + 2 + 2
  · rw [if_pos c1, if_pos ⟨c1.1, c1.2.1, by omega, by omega⟩]
    have : k = p + 2 ∨ k = p + 3 := by omega
    rcases this with rfl | rfl
    · rw [show p + 2 - (p + 2) = 0 by omega, show p + 2 - p = 2 by omega, by4_0, by4_2]
    · rw [show p + 3 - (p + 2) = 1 by omega, show p + 3 - p = 3 by omega, by4_1, by4_3]; omega
  · rw [if_neg c1]
    by_cases c2 : c = 1000 ∧ a = X + 21 ∧ p ≤ k ∧ k < p + 2
    · rw [if_pos c2, if_pos ⟨c2.1, c2.2.1, by omega, by omega⟩]
    · rw [if_neg c2, if_neg (by omega)]
/-- what a file is: its head -/
def hv1 (o : Int → Int → Int → Int) : Int := if 0 < cn (fun k => decide (¬ o 0 0 (o 3 k 0) % 4 = 3)) (o 2 0 0) then 1 else 0
def pHd (o : Int → Int → Int → Int) (g : Int → Int) : Prop := B4 g 0 1179403647 ∧ B4 g 4 65793 ∧ (∀ k, 8 ≤ k → k < 16 → g k = 0) ∧ B2 g 16 1 ∧ B2 g 18 243 ∧ B4 g 20 1 ∧ (∀ k, 24 ≤ k → k < 32 → g k = 0) ∧ B4 g 32 (tabO o) ∧ B4 g 36 (hv1 o) ∧ B2 g 40 52 ∧ (∀ k, 42 ≤ k → k < 46 → g k = 0) ∧ B2 g 46 40 ∧ B2 g 48 (enT (th o) 11) ∧ B2 g 50 (en o 10)
/-- its sections, starts -/
def pSc (o : Int → Int → Int → Int) (g : Int → Int) : Prop := ∀ x : Nat, x < 3 → ∀ k, 0 ≤ k → k < o 1 x 0 → g (bO o x + k) = o 0 x k
def pSs (o : Int → Int → Int → Int) (g : Int → Int) : Prop := ∀ k, 0 ≤ k → k < o 2 0 0 → B2 g (bO o 4 + 2 * k) (o 3 k 0)
/-- relocations -/
def iRl (o : Int → Int → Int → Int) (x : Int) : Int := 256 * (if o 5 x 3 = -1 then 0 else 1 + tn o (o 5 x 3)) + o 5 x 2
noncomputable def aRl (o : Int → Int → Int → Int) (x : Int) : Int := bO o (5 + (o 5 x 0).toNat) + 12 * cn (ofS o (o 5 x 0)) x
def pRl (o : Int → Int → Int → Int) (g : Int → Int) (x : Int) : Prop := B4 g (aRl o x) (o 5 x 1) ∧ B4 g (aRl o x + 4) (iRl o x) ∧ B4 g (aRl o x + 8) (o 5 x 4)
/-- symbols -/
def whO (o : Int → Int → Int → Int) (w : Int) : Int := if w = -1 then 0 else if w < 4 then en o w.toNat else if w = 4 then 65521 else 65522
noncomputable def aSy (o : Int → Int → Int → Int) (x : Int) : Int := bO o 8 + 16 + 16 * tn o x
def pSyB (o : Int → Int → Int → Int) (g : Int → Int) (x : Int) : Prop := B4 g (aSy o x) (sAt o x) ∧ B4 g (aSy o x + 4) (o 4 x 1) ∧ B4 g (aSy o x + 8) (o 4 x 2) ∧ g (aSy o x + 12) = 16 * o 4 x 3 + o 4 x 4 ∧ g (aSy o x + 13) = 0 ∧ B2 g (aSy o x + 14) (whO o (o 4 x 0))
/-- entries -/
def srO (k : Nat) : Int := if k = 3 then 8 else if 5 ≤ k ∧ k < 8 then 4 else if k = 8 then 2 else if 8 < k then 3 else 1
def flO (k : Nat) : Int := if k = 0 then 6 else if k = 1 then 2 else if k < 4 then 3 else if 5 ≤ k ∧ k < 8 then 64 else 0
def eaO (k : Nat) : Int := if k = 4 then 2 else if 5 ≤ k ∧ k < 8 then 12 else if k = 8 then 16 else 0
def lkO (o : Int → Int → Int → Int) (k : Nat) : Int := if 5 ≤ k ∧ k < 8 then en o 8 else if k = 8 then en o 9 else 0
def nfO (o : Int → Int → Int → Int) (k : Nat) : Int := if 5 ≤ k ∧ k < 8 then en o (k - 5) else if k = 8 then 1 + nLc o else 0
noncomputable def mnO (o : Int → Int → Int → Int) (k : Nat) : Int := if k = 3 then o 1 3 0 else lnO o k
def arO (o : Int → Int → Int → Int) (k : Nat) : Int := if k = 3 then o 1 3 1 else alO o k
noncomputable def aEn (o : Int → Int → Int → Int) (k : Nat) : Int := tabO o + 40 * en o k
def pEn (o : Int → Int → Int → Int) (g : Int → Int) (k : Nat) : Prop := B4 g (aEn o k) (stP (sTl (th o) k) (tl k)) ∧ B4 g (aEn o k + 4) (srO k) ∧ B4 g (aEn o k + 8) (flO k) ∧ B4 g (aEn o k + 12) 0 ∧ B4 g (aEn o k + 16) (bO o k) ∧ B4 g (aEn o k + 20) (mnO o k) ∧ B4 g (aEn o k + 24) (lkO o k) ∧ B4 g (aEn o k + 28) (nfO o k) ∧ B4 g (aEn o k + 32) (arO o k) ∧ B4 g (aEn o k + 36) (eaO k)
/-- all of it -/
def pFi (o : Int → Int → Int → Int) (g : Int → Int) : Prop := pHd o g ∧ pSc o g ∧ pSs o g ∧ (∀ x, 0 ≤ x → x < o 2 2 0 → pRl o g x) ∧ ((∀ k, bO o 8 ≤ k → k < bO o 8 + 16 → g k = 0) ∧ ∀ x, 0 ≤ x → x < o 2 1 0 → pSyB o g x) ∧ (∀ i : Nat, i < (sSy o (o 2 1 0).toNat).length → g (bO o 9 + i) = (sSy o (o 2 1 0).toNat).getD i 0) ∧ (∀ i : Nat, i < (sTl (th o) 11).length → g (bO o 10 + i) = (sTl (th o) 11).getD i 0) ∧
  ((∀ k, tabO o ≤ k → k < tabO o + 40 → g k = 0) ∧ ∀ k : Nat, k < 11 → th o k = true → pEn o g k) ∧ (∀ k : Nat, k < 11 → ∀ p, qO o k ≤ p → p < bO o k → g p = 0) ∧ ∀ p, qO o 11 ≤ p → p < tabO o → g p = 0
/-- a file as the twin has it -/
def fG (s : jS) (X : Int) : Int → Int := jf s 1000 (X + 21)
theorem fG_jp {k v q : Int} : fG (jp s 1000 (X + 21) k v) X q = if q = k then v else fG s X q := by
  unfold fG; rw [jf_jp]
  by_cases c : q = k
  · rw [if_pos ⟨rfl, rfl, c⟩, if_pos c]
  · rw [if_neg (fun h => c h.2.2), if_neg c]
theorem fG_w {lo n q : Int} {e : Int → Int} : fG (jfil s 1000 (X + 21) lo n e) X q = if lo ≤ q ∧ q < lo + n then e (q - lo) else fG s X q := by
  unfold fG
  by_cases c : lo ≤ q ∧ q < lo + n
  · rw [if_pos c, jfl_pos ⟨rfl, rfl, c.1, c.2⟩]
  · rw [if_neg c, jfl_neg (fun h => c ⟨h.2.2.1, h.2.2.2⟩)]
theorem fG_n {lo n q : Int} {e : Int → Int} (h : q < lo ∨ lo + n ≤ q) : fG (jfil s 1000 (X + 21) lo n e) X q = fG s X q := by rw [fG_w, if_neg (by omega)]
theorem fG_4 : B4 (fG (jfil s 1000 (X + 21) p 4 (by4 v)) X) p v := by
  refine ⟨?_, ?_, ?_, ?_⟩ <;> rw [fG_w, if_pos (by omega)]
  · rw [show p - p = 0 by omega, by4_0]
  · rw [show p + 1 - p = 1 by omega, by4_1]
  · rw [show p + 2 - p = 2 by omega, by4_2]
  · rw [show p + 3 - p = 3 by omega, by4_3]
theorem fG_2 : B2 (fG (jfil s 1000 (X + 21) p 2 (by4 v)) X) p v := by
  refine ⟨?_, ?_⟩ <;> rw [fG_w, if_pos (by omega)]
  · rw [show p - p = 0 by omega, by4_0]
  · rw [show p + 1 - p = 1 by omega, by4_1]
theorem B4.w {lo n : Int} {e : Int → Int} (h : B4 (fG s X) p v) (d : p + 4 ≤ lo ∨ lo + n ≤ p) : B4 (fG (jfil s 1000 (X + 21) lo n e) X) p v := h.of fun q q0 q1 => fG_n (by omega)
theorem B2.w {lo n : Int} {e : Int → Int} (h : B2 (fG s X) p v) (d : p + 2 ≤ lo ∨ lo + n ≤ p) : B2 (fG (jfil s 1000 (X + 21) lo n e) X) p v := h.of fun q q0 q1 => fG_n (by omega)
theorem jin_of (h0 : -2147483648 ≤ v) (h1 : v ≤ 2147483647) : jin v := ⟨h0, h1⟩
theorem tHead_y (hO : tOb s X 0 o) (v : vOb o) (hL : tLO s X o) (nb : ¬ bd1 o) : jE (m_X40_writeHead s X (tabO o)) fun q => fFl s q.1 X ∧ (∀ p, p < 0 ∨ 8 ≤ p ∧ p < 16 ∨ 24 ≤ p ∧ p < 32 ∨ 42 ≤ p ∧ p < 46 ∨ 52 ≤ p → fG q.1 X p = fG s X p) ∧ ((∀ p, 0 ≤ p → p < 52 → fG s X p = 0) → pHd o (fG q.1 X)) := by
  obtain ⟨n1, n2, n3, n4, n5, n6⟩ := v.2.2.1
  have hN := hO.2.2.1.1
  have hq := qO_lo v 11
  have ht := rU_lo (p := qO o 11) (a := 4) (by omega)
  have hen := enT_lo (T := th o) 11
  have hen' : 0 ≤ en o 10 ∧ en o 10 ≤ 12 := by
    have := enT_lo (T := th o) 10
    unfold en; split <;> omega
  have hT : tabO o = rU (qO o 11) 4 := rfl
  rw [em_X40_writeHead]; unfold dm_X40_writeHead
  rw [t_w4 (by omega) (by omega) (jin_of (by omega) (by omega)), Option.bind_some, t_w4 (by omega) (by omega) (jin_of (by omega) (by omega)), Option.bind_some, t_w2 (by omega) (by omega) (jin_of (by omega) (by omega)), Option.bind_some, t_w2 (by omega) (by omega) (jin_of (by omega) (by omega)), Option.bind_some, t_w4 (by omega) (by omega) (jin_of (by omega) (by omega)), Option.bind_some, t_w4 (by omega) (by omega) (jin_of (by omega) (by omega)), Option.bind_some]
  have f1 : fFl s (jfil (jfil (jfil (jfil (jfil (jfil s 1000 (X + 21) 0 4 (by4 1179403647)) 1000 (X + 21) 4 4 (by4 65793)) 1000 (X + 21) 16 2 (by4 1)) 1000 (X + 21) 18 2 (by4 243)) 1000 (X + 21) 20 4 (by4 1)) 1000 (X + 21) 32 4 (by4 (tabO o))) X := fFl.rfl.jw.jw.jw.jw.jw.jw
  have g1 : ∀ (u : jS), u = jfil (jfil (jfil (jfil (jfil (jfil s 1000 (X + 21) 0 4 (by4 1179403647)) 1000 (X + 21) 4 4 (by4 65793)) 1000 (X + 21) 16 2 (by4 1)) 1000 (X + 21) 18 2 (by4 243)) 1000 (X + 21) 20 4 (by4 1)) 1000 (X + 21) 32 4 (by4 (tabO o)) → B4 (fG u X) 0 1179403647 ∧ B4 (fG u X) 4 65793 ∧ B2 (fG u X) 16 1 ∧ B2 (fG u X) 18 243 ∧ B4 (fG u X) 20 1 ∧ B4 (fG u X) 32 (tabO o) ∧ ∀ p, p < 0 ∨ 8 ≤ p ∧ p < 16 ∨ 24 ≤ p ∧ p < 32 ∨ 36 ≤ p → fG u X p = fG s X p := by
    rintro u rfl
    refine ⟨?_, ?_, ?_, ?_, ?_, fG_4, fun p hp => ?_⟩
    · exact ((((fG_4.w (by omega)).w (by omega)).w (by omega)).w (by omega)).w (by omega)
    · exact (((fG_4.w (by omega)).w (by omega)).w (by omega)).w (by omega)
    · exact ((fG_2.w (by omega)).w (by omega)).w (by omega)
    · exact (fG_2.w (by omega)).w (by omega)
    · exact fG_4.w (by omega)
    · rw [fG_n (by omega), fG_n (by omega), fG_n (by omega), fG_n (by omega), fG_n (by omega), fG_n (by omega)]
  replace g1 := g1 _ rfl
  generalize jfil (jfil (jfil (jfil (jfil (jfil s 1000 (X + 21) 0 4 (by4 1179403647)) 1000 (X + 21) 4 4 (by4 65793)) 1000 (X + 21) 16 2 (by4 1)) 1000 (X + 21) 18 2 (by4 243)) 1000 (X + 21) 20 4 (by4 1)) 1000 (X + 21) 32 4 (by4 (tabO o)) = u at f1 g1 ⊢
  obtain ⟨a1, a2, a3, a4, a5, a6, a7⟩ := g1
  have hO1 : tOb u X 0 o := hO.keep (fun a k a0 a1 => f1.r (by omega) k) v
  rw [eu_X40_writeHead_48]; unfold du_X40_writeHead_48
  have nv : ∀ k, 0 ≤ k → k < o 2 0 0 → 0 ≤ o 3 k 0 ∧ o 3 k 0 < o 1 0 0 ∧ o 1 0 0 ≤ 2048 := fun k k0 k1 => by
    have h1 := (v.2.2.2.1 k k0 k1).1
    have h2 := (v.1 0 (by omega) (by omega)).2.1
    rw [if_neg (by omega)] at h2
    exact ⟨h1, Classical.byContradiction fun z => nb ⟨k, k0, k1, by omega⟩, h2⟩
  refine jS_for1 (fun k z w => w = u ∧ z = cn (fun k => decide (¬ o 0 0 (o 3 k 0) % 4 = 3)) k) (fun k z => [X, z, k]) 0 (o 2 0 0) n1 ⟨rfl, rfl⟩ (fun k z w k0 k1 ⟨e0, e1⟩ => ?_) (fun z w ⟨e0, e1⟩ => ?_)
  · subst e0
    show jE (b_X40_writeHead_48 w X z k) _
    obtain ⟨v1, v2, v3⟩ := nv k k0 k1
    have h1 := hO1.2.2.2.1 k k0 k1
    have h2 := hO1.2.1 0 (o 3 k 0) (by omega) (by omega) v1 v2
    rw [show 1024 * (0 : Int) + k = k by omega] at h1
    rw [show 6144 * (0 : Int) + (2048 * 0 + o 3 k 0) = o 3 k 0 by omega] at h2
    have hc := cn_lo (P := fun k => decide (¬ o 0 0 (o 3 k 0) % 4 = 3)) k0
    have hs := cn_s (P := fun k => decide (¬ o 0 0 (o 3 k 0) % 4 = 3)) k0
    unfold b_X40_writeHead_48
    rw [jlt_in (by omega) (by omega), Option.bind_some, hO1.2.2.1.1, if_pos k1, jlt_in k0 (by omega), Option.bind_some, h1, jlt_in v1 (by omega), Option.bind_some, h2, e_X40_isShort, I_and_3, Option.bind_some]
    simp only [em_X40_writeHead, dm_X40_writeHead, eu_X40_writeHead_101, du_X40_writeHead_101, eu_X40_writeHead_89, du_X40_writeHead_89, eu_X40_writeHead_81, du_X40_writeHead_81, jlet]
    by_cases c : o 0 0 (o 3 k 0) % 4 = 3
    · rw [if_pos (by omega), W32_in (by omega) (by omega), W32_in (by omega) (by omega)]
      rw [if_neg (by simp [c])] at hs
      exact jS_end ⟨_, rfl, rfl, by omega⟩
    · rw [if_neg (by omega), W32_in (by omega) (by omega), W32_in (by omega) (by omega)]
      rw [if_pos (by simp [c])] at hs
      exact jS_end ⟨_, rfl, rfl, by omega⟩
  · subst e0
    show jE (b_X40_writeHead_48 w X z (o 2 0 0)) _
    unfold b_X40_writeHead_48
    rw [jlt_in (by omega) (by omega), Option.bind_some, hO1.2.2.1.1, if_neg (by omega), eu_X40_writeHead_89]; unfold du_X40_writeHead_89
    have e36 : (if 0 < z then u_X40_writeHead_101 w X 1 36 X else u_X40_writeHead_101 w X 0 36 X) = u_X40_writeHead_101 w X (hv1 o) 36 X := by
      unfold hv1; rw [← e1]; split <;> rfl
    have h01 : 0 ≤ hv1 o ∧ hv1 o ≤ 1 := by unfold hv1; split <;> omega
    rw [e36, eu_X40_writeHead_101]; unfold du_X40_writeHead_101
    refine jS_inr ?_
    rw [t_w4 (by omega) (by omega) (jin_of (by omega) (by omega)), Option.bind_some, t_w2 (by omega) (by omega) (jin_of (by omega) (by omega)), Option.bind_some, t_w2 (by omega) (by omega) (jin_of (by omega) (by omega)), Option.bind_some]
    have f2 : fFl s (jfil (jfil (jfil w 1000 (X + 21) 36 4 (by4 (hv1 o))) 1000 (X + 21) 40 2 (by4 52)) 1000 (X + 21) 46 2 (by4 40)) X := f1.jw.jw.jw
    have l1 := hL.2.2.2.1
    have l2 := hL.2.2.1 10 (by omega)
    rw [← f2.i] at l1
    rw [show ((10 : Nat) : Int) = 10 from rfl, ← f2.r (by omega)] at l2
    simp only []
    rw [l1, t_w2 (by omega) (by omega) (jin_of (by omega) (by omega)), Option.bind_some, jlt_in (by omega) (by omega), Option.bind_some, jfl_neg (by omega), l2, t_w2 (by omega) (by omega) (jin_of (by omega) (by omega)), Option.bind_some]
    refine jS_end ⟨f2.jw.jw, fun p hp => ?_, fun hz => ⟨?_, ?_, fun k k0 k1 => ?_, ?_, ?_, ?_, fun k k0 k1 => ?_, ?_, ?_, ?_, fun k k0 k1 => ?_, ?_, ?_, ?_⟩⟩
    · show fG (jfil _ 1000 (X + 21) 50 2 _) X p = _
      rw [fG_n (by omega), fG_n (by omega), fG_n (by omega), fG_n (by omega), fG_n (by omega)]
      exact a7 p (by omega)
    · exact ((((a1.w (by omega)).w (by omega)).w (by omega)).w (by omega)).w (by omega)
    · exact ((((a2.w (by omega)).w (by omega)).w (by omega)).w (by omega)).w (by omega)
    · rw [fG_n (by omega), fG_n (by omega), fG_n (by omega), fG_n (by omega), fG_n (by omega), a7 k (by omega), hz k (by omega) (by omega)]
    · exact ((((a3.w (by omega)).w (by omega)).w (by omega)).w (by omega)).w (by omega)
    · exact ((((a4.w (by omega)).w (by omega)).w (by omega)).w (by omega)).w (by omega)
    · exact ((((a5.w (by omega)).w (by omega)).w (by omega)).w (by omega)).w (by omega)
    · rw [fG_n (by omega), fG_n (by omega), fG_n (by omega), fG_n (by omega), fG_n (by omega), a7 k (by omega), hz k (by omega) (by omega)]
    · exact ((((a6.w (by omega)).w (by omega)).w (by omega)).w (by omega)).w (by omega)
    · exact (((fG_4.w (by omega)).w (by omega)).w (by omega)).w (by omega)
    · exact ((fG_2.w (by omega)).w (by omega)).w (by omega)
    · rw [fG_n (by omega), fG_n (by omega), fG_n (by omega), fG_n (by omega), fG_n (by omega), a7 k (by omega), hz k (by omega) (by omega)]
    · exact (fG_2.w (by omega)).w (by omega)
    · exact fG_2.w (by omega)
    · exact fG_2
end jTput
