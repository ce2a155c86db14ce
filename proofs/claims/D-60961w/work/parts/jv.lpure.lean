/-! the layout, pure: parts, pieces, labels are put in -/
set_option maxRecDepth 100000
section jLpure
variable {a k m o p v l n x y c j X f z B i q w S : Int} {d e : Int → Int → Int}
/-- a part more, of output o, power w -/
def dPt (d : Int → Int → Int) (o w : Int) : Int → Int → Int := fun f k => if f = 0 ∧ k = 0 then d 0 0 + 1 else if k = d 0 0 ∧ 1 ≤ f ∧ f ≤ 4 then (if f = 1 then o else if f = 2 then w else d 0 1) else d f k
/-- a piece more, of the last part -/
def dPc (d : Int → Int → Int) (S n w l c z : Int) : Int → Int → Int := fun f k => if f = 0 ∧ k = 1 then d 0 1 + 1 else if f = 4 ∧ k = d 0 0 - 1 then d 0 1 + 1 else if k = d 0 1 ∧ (5 ≤ f ∧ f ≤ 11 ∨ f = 15 ∨ f = 16) then (if f = 5 then S else if f = 6 then n else if f = 7 then w else if f = 8 then l else if f = 9 then c else if f = 10 then z else if f = 11 then d 0 0 - 1 else if f = 15 then (if S = 1 then 8 else 4) else 0) else d f k
/-- a label more -/
def dLb (d : Int → Int → Int) : Int → Int → Int := fun f k => if f = 0 ∧ k = 2 then d 0 2 + 1 else if k = d 0 2 ∧ f = 12 then -1 else if k = d 0 2 ∧ f = 13 then 0 else d f k
/-- a label is put -/
def dLp (d : Int → Int → Int) (l k a : Int) : Int → Int → Int := fun f x => if f = 12 ∧ x = l then k else if f = 13 ∧ x = l then a else d f x
theorem dPt_0 : dPt d o w 0 0 = d 0 0 + 1 := if_pos ⟨rfl, rfl⟩
theorem dPt_no (h1 : ¬ (f = 0 ∧ k = 0)) (h2 : ¬ (k = d 0 0 ∧ 1 ≤ f ∧ f ≤ 4)) : dPt d o w f k = d f k := by unfold dPt; rw [if_neg h1, if_neg h2]
theorem dPt_1 : dPt d o w 1 (d 0 0) = o := by unfold dPt; rw [if_neg (by omega), if_pos (by omega), if_pos rfl]
theorem dPt_2 : dPt d o w 2 (d 0 0) = w := by unfold dPt; rw [if_neg (by omega), if_pos (by omega), if_neg (by decide), if_pos rfl]
theorem dPt_3 : dPt d o w 3 (d 0 0) = d 0 1 := by unfold dPt; rw [if_neg (by omega), if_pos (by omega), if_neg (by decide), if_neg (by decide)]
theorem dPt_4 : dPt d o w 4 (d 0 0) = d 0 1 := by unfold dPt; rw [if_neg (by omega), if_pos (by omega), if_neg (by decide), if_neg (by decide)]
theorem dPc_0 : dPc d S n w l c z 0 1 = d 0 1 + 1 := if_pos ⟨rfl, rfl⟩
theorem dPc_4 : dPc d S n w l c z 4 (d 0 0 - 1) = d 0 1 + 1 := by unfold dPc; rw [if_neg (by omega), if_pos ⟨rfl, rfl⟩]
theorem dPc_no (h1 : ¬ (f = 0 ∧ k = 1)) (h2 : ¬ (f = 4 ∧ k = d 0 0 - 1)) (h3 : ¬ (k = d 0 1 ∧ (5 ≤ f ∧ f ≤ 11 ∨ f = 15 ∨ f = 16))) : dPc d S n w l c z f k = d f k := by unfold dPc; rw [if_neg h1, if_neg h2, if_neg h3]
theorem dPc_at : dPc d S n w l c z 5 (d 0 1) = S ∧ dPc d S n w l c z 6 (d 0 1) = n ∧ dPc d S n w l c z 7 (d 0 1) = w ∧ dPc d S n w l c z 8 (d 0 1) = l ∧ dPc d S n w l c z 9 (d 0 1) = c ∧ dPc d S n w l c z 10 (d 0 1) = z ∧ dPc d S n w l c z 11 (d 0 1) = d 0 0 - 1 ∧ (dPc d S n w l c z 15 (d 0 1) = if S = 1 then 8 else 4) ∧ dPc d S n w l c z 16 (d 0 1) = 0 := by
  unfold dPc
  refine ⟨?_, ?_, ?_, ?_, ?_, ?_, ?_, ?_, ?_⟩ <;> rw [if_neg (by omega), if_neg (by omega), if_pos (by omega)] <;> rfl
theorem dLb_0 : dLb d 0 2 = d 0 2 + 1 := if_pos ⟨rfl, rfl⟩
theorem dLb_no (h1 : ¬ (f = 0 ∧ k = 2)) (h2 : ¬ (k = d 0 2 ∧ (f = 12 ∨ f = 13))) : dLb d f k = d f k := by unfold dLb; rw [if_neg h1, if_neg (by omega), if_neg (by omega)]
theorem dLb_12 : dLb d 12 (d 0 2) = -1 := by unfold dLb; rw [if_neg (by omega), if_pos ⟨rfl, rfl⟩]
theorem dLb_13 : dLb d 13 (d 0 2) = 0 := by unfold dLb; rw [if_neg (by omega), if_neg (by omega), if_pos ⟨rfl, rfl⟩]
theorem dLp_no (h : ¬ (x = l ∧ (f = 12 ∨ f = 13))) : dLp d l k a f x = d f x := by unfold dLp; rw [if_neg (by omega), if_neg (by omega)]
theorem dLp_12 : dLp d l k a 12 l = k := by unfold dLp; rw [if_pos ⟨rfl, rfl⟩]
theorem dLp_13 : dLp d l k a 13 l = a := by unfold dLp; rw [if_neg (by omega), if_pos ⟨rfl, rfl⟩]
theorem vLy.ptN (v : vLy d) (hp : 0 < d 0 0) : d 4 (d 0 0 - 1) = d 0 1 := by
  have := (v.2.2.2.2.1 (d 0 0 - 1) (by omega) (by omega)).2.2.2
  rw [if_neg (by omega)] at this; exact this
theorem vLy.ptA (v : vLy d) (h0 : d 0 0 < 32) (ho : 0 ≤ o ∧ o < 4) (hw : 0 ≤ w ∧ w ≤ 12) : vLy (dPt d o w) := by
  obtain ⟨v0, v1, v2, v3, v4, v5, v6, v7, v8⟩ := v
  refine ⟨by rw [dPt_0]; omega, by rw [dPt_no (by omega) (by omega)]; exact v1, by rw [dPt_no (by omega) (by omega)]; exact v2, by rw [dPt_no (by omega) (by omega)]; exact v3, fun p p0 p1 => ?_, ?_, fun k k0 k1 => ?_, fun l l0 l1 => ?_, fun o o0 o1 => by rw [dPt_no (by omega) (by omega)]; exact v8 o o0 o1⟩
  · rw [dPt_0] at p1
    rw [dPt_0, dPt_no (f := 0) (k := 1) (by omega) (by omega)]
    by_cases c : p = d 0 0
    · rw [c, dPt_1, dPt_2, dPt_3, dPt_4, if_neg (by omega)]; omega
    · obtain ⟨a1, a2, a3, a4⟩ := v4 p p0 (by omega)
      rw [dPt_no (f := 1) (k := p) (by omega) (by omega), dPt_no (f := 2) (k := p) (by omega) (by omega), dPt_no (f := 3) (k := p) (by omega) (by omega), dPt_no (f := 4) (k := p) (by omega) (by omega)]
      refine ⟨a1, a2, a3, ?_⟩
      by_cases c2 : p + 1 = d 0 0
      · rw [if_pos (by omega), c2, dPt_3, a4, if_neg (by omega)]
      · rw [if_pos (by omega), dPt_no (by omega) (by omega), a4, if_pos (by omega)]
  · by_cases c : d 0 0 = 0
    · have : d 0 1 = 0 := by
        by_cases c1 : d 0 1 = 0
        · exact c1
        · have := (v6 0 (by decide) (by omega)).2.1; omega
      have e := dPt_3 (d := d) (o := o) (w := w)
      rw [c] at e
      rw [e]; exact this
    · rw [dPt_no (by omega) (by omega)]; exact v5
  · rw [dPt_no (by omega) (by omega)] at k1
    obtain ⟨a1, a2, a3, a4, a5⟩ := v6 k k0 k1
    have H : ∀ f k, 5 ≤ f → dPt d o w f k = d f k := fun f k hf => dPt_no (by omega) (by omega)
    unfold mvK grK at a5 ⊢
    rw [H 5 _ (by omega), H 6 _ (by omega), H 7 _ (by omega), H 8 _ (by omega), H 9 _ (by omega), H 10 _ (by omega), H 11 _ (by omega), H 15 _ (by omega), H 16 _ (by omega), dPt_0, dPt_no (f := 3) (k := d 11 k) (by omega) (by omega), dPt_no (f := 4) (k := d 11 k) (by omega) (by omega), dPt_no (f := 0) (k := 2) (by omega) (by omega)]
    exact ⟨a1, by omega, a3, a4, a5⟩
  · rw [dPt_no (by omega) (by omega)] at l1
    have H : ∀ f k, 5 ≤ f → dPt d o w f k = d f k := fun f k hf => dPt_no (by omega) (by omega)
    rw [H 12 _ (by omega), H 13 _ (by omega), H 5 _ (by omega), H 6 _ (by omega), dPt_no (f := 0) (k := 1) (by omega) (by omega)]
    exact v7 l l0 l1
theorem vLy.pc (v : vLy d) (h0 : 0 < d 0 0) (h1 : d 0 1 < 256) (hS : 0 ≤ S ∧ S ≤ 4) (hn : S = 0 ∨ S = 4 → 0 ≤ n ∧ n ≤ 4096) (hw : S = 4 → 0 ≤ w ∧ w ≤ 12) (hm : S = 1 ∨ S = 2 ∨ S = 3 → (0 ≤ l ∧ l < d 0 2) ∧ jin c ∧ (z = 0 ∨ z = 1)) : vLy (dPc d S n w l c z) := by
  have hN := v.ptN h0
  obtain ⟨v0, v1, v2, v3, v4, v5, v6, v7, v8⟩ := v
  obtain ⟨e5, e6, e7, e8, e9, e10, e11, e15, e16⟩ := dPc_at (d := d) (S := S) (n := n) (w := w) (l := l) (c := c) (z := z)
  refine ⟨by rw [dPc_no (by omega) (by omega) (by omega)]; exact v0, by rw [dPc_0]; omega, by rw [dPc_no (by omega) (by omega) (by omega)]; exact v2, by rw [dPc_no (by omega) (by omega) (by omega)]; exact v3, fun p p0 p1 => ?_, by rw [dPc_no (by omega) (by omega) (by omega)]; exact v5, fun k k0 k1 => ?_, fun l l0 l1 => ?_, fun o o0 o1 => by rw [dPc_no (by omega) (by omega) (by omega)]; exact v8 o o0 o1⟩
  · rw [dPc_no (by omega) (by omega) (by omega)] at p1
    obtain ⟨a1, a2, a3, a4⟩ := v4 p p0 p1
    rw [dPc_0, dPc_no (f := 1) (by omega) (by omega) (by omega), dPc_no (f := 2) (by omega) (by omega) (by omega), dPc_no (f := 3) (k := p) (by omega) (by omega) (by omega), dPc_no (f := 3) (k := p + 1) (by omega) (by omega) (by omega), dPc_no (f := 0) (k := 0) (by omega) (by omega) (by omega)]
    by_cases c : p = d 0 0 - 1
    · rw [c, dPc_4, if_neg (by omega)]
      rw [c] at a1 a2 a3
      exact ⟨a1, a2, by omega, rfl⟩
    · rw [dPc_no (f := 4) (by omega) (by omega) (by omega), if_pos (by omega)]
      rw [if_pos (by omega)] at a4
      exact ⟨a1, a2, by omega, a4⟩
  · rw [dPc_0] at k1
    rw [dPc_no (f := 0) (k := 0) (by omega) (by omega) (by omega), dPc_no (f := 0) (k := 2) (by omega) (by omega) (by omega)]
    unfold mvK grK
    by_cases ck : k = d 0 1
    · rw [ck, e5, e6, e7, e8, e9, e10, e11, e15, e16, dPc_no (f := 3) (by omega) (by omega) (by omega), dPc_4]
      obtain ⟨-, -, a3, -⟩ := v4 (d 0 0 - 1) (by omega) (by omega)
      refine ⟨hS, by omega, fun q => hn (.inl q), fun q => ⟨hn (.inr q), hw q⟩, fun q => ?_⟩
      obtain ⟨b1, b2, b3⟩ := hm q
      refine ⟨b1, b2, b3, ?_, .inl rfl⟩
      split <;> omega
    · obtain ⟨a1, a2, a3, a4, a5⟩ := v6 k k0 (by omega)
      have H : ∀ f, ¬ f = 0 → ¬ f = 4 → dPc d S n w l c z f k = d f k := fun f h0 h4 => dPc_no (by omega) (by omega) (by omega)
      rw [H 5 (by decide) (by decide), H 6 (by decide) (by decide), H 7 (by decide) (by decide), H 8 (by decide) (by decide), H 9 (by decide) (by decide), H 10 (by decide) (by decide), H 11 (by decide) (by decide), H 15 (by decide) (by decide), H 16 (by decide) (by decide), dPc_no (f := 3) (by omega) (by omega) (by omega)]
      unfold mvK grK at a5
      refine ⟨a1, ⟨a2.1, a2.2.1, a2.2.2.1, ?_⟩, a3, a4, a5⟩
      by_cases c : d 11 k = d 0 0 - 1
      · rw [c, dPc_4]; omega
      · rw [dPc_no (f := 4) (by omega) (by omega) (by omega)]; exact a2.2.2.2
  · rw [dPc_no (by omega) (by omega) (by omega)] at l1
    rw [dPc_0, dPc_no (f := 12) (by omega) (by omega) (by omega), dPc_no (f := 13) (by omega) (by omega) (by omega)]
    rcases v7 l l0 l1 with q | ⟨q1, q2, q3⟩
    · exact .inl q
    · rw [dPc_no (f := 5) (by omega) (by omega) (by omega), dPc_no (f := 6) (by omega) (by omega) (by omega)]
      exact .inr ⟨by omega, q2, q3⟩
theorem vLy.lb (v : vLy d) (h : d 0 2 < 64) : vLy (dLb d) := by
  obtain ⟨v0, v1, v2, v3, v4, v5, v6, v7, v8⟩ := v
  have H : ∀ f k, ¬ f = 0 → ¬ f = 12 → ¬ f = 13 → dLb d f k = d f k := fun f k h0 h1 h2 => dLb_no (by omega) (by omega)
  refine ⟨by rw [dLb_no (by omega) (by omega)]; exact v0, by rw [dLb_no (by omega) (by omega)]; exact v1, by rw [dLb_0]; omega, by rw [dLb_no (by omega) (by omega)]; exact v3, fun p p0 p1 => ?_, by rw [dLb_no (by omega) (by omega)]; exact v5, fun k k0 k1 => ?_, fun l l0 l1 => ?_, fun o o0 o1 => by rw [dLb_no (by omega) (by omega)]; exact v8 o o0 o1⟩
  · rw [dLb_no (by omega) (by omega)] at p1
    rw [dLb_no (f := 0) (by omega) (by omega), dLb_no (f := 0) (k := 0) (by omega) (by omega), H 1 _ (by decide) (by decide) (by decide), H 2 _ (by decide) (by decide) (by decide), H 3 _ (by decide) (by decide) (by decide), H 3 _ (by decide) (by decide) (by decide), H 4 _ (by decide) (by decide) (by decide)]
    exact v4 p p0 p1
  · rw [dLb_no (by omega) (by omega)] at k1
    obtain ⟨a1, a2, a3, a4, a5⟩ := v6 k k0 k1
    unfold mvK grK at a5 ⊢
    rw [H 5 _ (by decide) (by decide) (by decide), H 6 _ (by decide) (by decide) (by decide), H 7 _ (by decide) (by decide) (by decide), H 8 _ (by decide) (by decide) (by decide), H 9 _ (by decide) (by decide) (by decide), H 10 _ (by decide) (by decide) (by decide), H 11 _ (by decide) (by decide) (by decide), H 15 _ (by decide) (by decide) (by decide), H 16 _ (by decide) (by decide) (by decide), H 3 _ (by decide) (by decide) (by decide), H 4 _ (by decide) (by decide) (by decide), dLb_0, dLb_no (f := 0) (k := 0) (by omega) (by omega)]
    refine ⟨a1, a2, a3, a4, fun q => ?_⟩
    obtain ⟨b1, b2⟩ := a5 q
    exact ⟨by omega, b2⟩
  · rw [dLb_0] at l1
    rw [dLb_no (f := 0) (k := 1) (by omega) (by omega), H 5 _ (by decide) (by decide) (by decide), H 6 _ (by decide) (by decide) (by decide)]
    by_cases c : l = d 0 2
    · rw [c, dLb_12]; exact .inl rfl
    · rw [dLb_no (f := 12) (by omega) (by omega), dLb_no (f := 13) (by omega) (by omega)]
      exact v7 l l0 (by omega)
theorem vLy.lp (v : vLy d) (hk : 0 ≤ k ∧ k < d 0 1) (ha : 0 ≤ a ∧ a ≤ if d 5 k = 0 then d 6 k else 1) : vLy (dLp d l k a) := by
  obtain ⟨v0, v1, v2, v3, v4, v5, v6, v7, v8⟩ := v
  have H : ∀ f x, ¬ f = 12 → ¬ f = 13 → dLp d l k a f x = d f x := fun f k h1 h2 => dLp_no (by omega)
  refine ⟨by rw [H _ _ (by decide) (by decide)]; exact v0, by rw [H _ _ (by decide) (by decide)]; exact v1, by rw [H _ _ (by decide) (by decide)]; exact v2, by rw [H _ _ (by decide) (by decide)]; exact v3, fun p p0 p1 => ?_, by rw [H _ _ (by decide) (by decide)]; exact v5, fun k k0 k1 => ?_, fun x l0 l1 => ?_, fun o o0 o1 => by rw [H _ _ (by decide) (by decide)]; exact v8 o o0 o1⟩
  · rw [H _ _ (by decide) (by decide)] at p1
    rw [H 0 _ (by decide) (by decide), H 0 _ (by decide) (by decide), H 1 _ (by decide) (by decide), H 2 _ (by decide) (by decide), H 3 _ (by decide) (by decide), H 3 _ (by decide) (by decide), H 4 _ (by decide) (by decide)]
    exact v4 p p0 p1
  · rw [H _ _ (by decide) (by decide)] at k1
    obtain ⟨a1, a2, a3, a4, a5⟩ := v6 k k0 k1
    unfold mvK grK at a5 ⊢
    rw [H 5 _ (by decide) (by decide), H 6 _ (by decide) (by decide), H 7 _ (by decide) (by decide), H 8 _ (by decide) (by decide), H 9 _ (by decide) (by decide), H 10 _ (by decide) (by decide), H 11 _ (by decide) (by decide), H 15 _ (by decide) (by decide), H 16 _ (by decide) (by decide), H 3 _ (by decide) (by decide), H 4 _ (by decide) (by decide), H 0 _ (by decide) (by decide), H 0 _ (by decide) (by decide)]
    exact ⟨a1, a2, a3, a4, a5⟩
  · rw [H _ _ (by decide) (by decide)] at l1
    rw [H 0 _ (by decide) (by decide), H 5 _ (by decide) (by decide), H 6 _ (by decide) (by decide)]
    by_cases c : x = l
    · rw [c, dLp_12, dLp_13]; exact .inr ⟨hk, ha⟩
    · rw [dLp_no (f := 12) (by omega), dLp_no (f := 13) (by omega)]
      exact v7 x l0 l1
/-- nothing is laid out -/
def dZe : Int → Int → Int := fun _ _ => 0
theorem vLy.ze : vLy dZe :=
  ⟨⟨Int.le_refl _, by show (0 : Int) ≤ 32; decide⟩, ⟨Int.le_refl _, by show (0 : Int) ≤ 256; decide⟩, ⟨Int.le_refl _, by show (0 : Int) ≤ 64; decide⟩, ⟨Int.le_refl _, by show (0 : Int) ≤ 1048576; decide⟩, fun p p0 p1 => absurd p1 (by show ¬ p < 0; omega), rfl, fun k k0 k1 => absurd k1 (by show ¬ k < 0; omega), fun l l0 l1 => absurd l1 (by show ¬ l < 0; omega), fun o _ _ => ⟨Int.le_refl _, by show (0 : Int) ≤ 12; decide⟩⟩
theorem vLy.ba (v : vLy d) (hb : 0 ≤ z ∧ z ≤ 1048576) : vLy (dU d 0 3 z) := by
  obtain ⟨v0, v1, v2, v3, v4, v5, v6, v7, v8⟩ := v
  have H : ∀ f x, ¬ (f = 0 ∧ x = 3) → dU d 0 3 z f x = d f x := fun f k h => dU_no h
  refine ⟨by rw [H _ _ (by decide)]; exact v0, by rw [H _ _ (by decide)]; exact v1, by rw [H _ _ (by decide)]; exact v2, by rw [dU_at]; exact hb, fun p p0 p1 => ?_, by rw [H _ _ (by decide)]; exact v5, fun k k0 k1 => ?_, fun x l0 l1 => ?_, fun o o0 o1 => by rw [H _ _ (by omega)]; exact v8 o o0 o1⟩
  · rw [H _ _ (by decide)] at p1
    rw [H 0 _ (by decide), H 0 _ (by decide), H 1 _ (by omega), H 2 _ (by omega), H 3 _ (by omega), H 3 _ (by omega), H 4 _ (by omega)]
    exact v4 p p0 p1
  · rw [H _ _ (by decide)] at k1
    have := v6 k k0 k1
    unfold mvK grK at this ⊢
    rw [H 5 _ (by omega), H 6 _ (by omega), H 7 _ (by omega), H 8 _ (by omega), H 9 _ (by omega), H 10 _ (by omega), H 11 _ (by omega), H 15 _ (by omega), H 16 _ (by omega), H 3 _ (by omega), H 4 _ (by omega), H 0 _ (by decide), H 0 _ (by decide)]
    exact this
  · rw [H _ _ (by decide)] at l1
    rw [H 0 _ (by decide), H 5 _ (by omega), H 6 _ (by omega), H 12 _ (by omega), H 13 _ (by omega)]
    exact v7 x l0 l1
theorem vLy.al (v : vLy d) (hb : 0 ≤ z ∧ z ≤ 12) : vLy (dU d 14 o z) := by
  obtain ⟨v0, v1, v2, v3, v4, v5, v6, v7, v8⟩ := v
  have H : ∀ f x, ¬ (f = 14) → dU d 14 o z f x = d f x := fun f k h => dU_no (by omega)
  refine ⟨by rw [H _ _ (by decide)]; exact v0, by rw [H _ _ (by decide)]; exact v1, by rw [H _ _ (by decide)]; exact v2, by rw [H _ _ (by decide)]; exact v3, fun p p0 p1 => ?_, by rw [H _ _ (by decide)]; exact v5, fun k k0 k1 => ?_, fun x l0 l1 => ?_, fun i o0 o1 => ?_⟩
  · rw [H _ _ (by decide)] at p1
    rw [H 0 _ (by decide), H 0 _ (by decide), H 1 _ (by omega), H 2 _ (by omega), H 3 _ (by omega), H 3 _ (by omega), H 4 _ (by omega)]
    exact v4 p p0 p1
  · rw [H _ _ (by decide)] at k1
    have := v6 k k0 k1
    unfold mvK grK at this ⊢
    rw [H 5 _ (by omega), H 6 _ (by omega), H 7 _ (by omega), H 8 _ (by omega), H 9 _ (by omega), H 10 _ (by omega), H 11 _ (by omega), H 15 _ (by omega), H 16 _ (by omega), H 3 _ (by omega), H 4 _ (by omega), H 0 _ (by decide), H 0 _ (by decide)]
    exact this
  · rw [H _ _ (by decide)] at l1
    rw [H 0 _ (by decide), H 5 _ (by omega), H 6 _ (by omega), H 12 _ (by omega), H 13 _ (by omega)]
    exact v7 x l0 l1
  · by_cases c : i = o
    · rw [c, dU_at]; exact hb
    · rw [dU_no (by omega)]; exact v8 i o0 o1
end jLpure
