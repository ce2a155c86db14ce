/-! the linker: what a read object leaves with the twin -/
set_option maxRecDepth 100000
section jUnits
variable {s t u w : jS} {a b k m p v l n x y c j X f z i q H r : Int} {o o' : Int → Int → Int → Int}
def tUA (t : jS) (H x : Int) (o : Int → Int → Int → Int) : Prop := ∀ j, 0 ≤ j → j < 4 → jf t 1000 (H + 171) (4 * x + j) = o 1 j 0 ∧ jf t 1000 (H + 172) (4 * x + j) = o 1 j 1
def tUB (t : jS) (H x : Int) (o : Int → Int → Int → Int) : Prop := ∀ j k, 0 ≤ j → j < 3 → 0 ≤ k → k < o 1 j 0 → jf t 1000 (H + 170) (6144 * x + (2048 * j + k)) = o 0 j k
def tUT (t : jS) (H x : Int) (o : Int → Int → Int → Int) : Prop := jf t 1000 (H + 174) x = o 2 0 0 ∧ (jf t 1002 (H + 175) x = if 0 < cn (isH o) (o 2 0 0) then 1 else 0) ∧ ∀ k, 0 ≤ k → k < o 2 0 0 → jf t 1000 (H + 173) (1024 * x + k) = o 3 k 0
def tUy (t : jS) (H y : Int) (w : Int → Int) : Prop := jf t 1000 (H + 177) y = w 0 ∧ jf t 1000 (H + 178) y = w 1 ∧ jf t 1000 (H + 179) y = w 2 ∧ jf t 1000 (H + 180) y = w 3 ∧ jf t 1000 (H + 181) y = w 5 ∧ ∀ i, 0 ≤ i → i < w 5 → jf t 1000 (H + 182) (16 * y + i) = w (6 + i)
def tUY (t : jS) (H x : Int) (o : Int → Int → Int → Int) : Prop := jf t 1000 (H + 176) x = o 2 1 0 ∧ ∀ k, 0 ≤ k → k < o 2 1 0 → tUy t H (100 * x + k) (o 4 k)
def tUr (t : jS) (H y : Int) (w : Int → Int) : Prop := jf t 1000 (H + 184) y = w 0 ∧ jf t 1000 (H + 185) y = w 1 ∧ jf t 1000 (H + 186) y = w 2 ∧ jf t 1000 (H + 187) y = w 3 ∧ jf t 1000 (H + 188) y = w 4
def tUR (t : jS) (H x : Int) (o : Int → Int → Int → Int) : Prop := jf t 1000 (H + 183) x = o 2 2 0 ∧ ∀ k, 0 ≤ k → k < o 2 2 0 → tUr t H (300 * x + k) (o 5 k)
def tUn (t : jS) (H x : Int) (o : Int → Int → Int → Int) : Prop := tUA t H x o ∧ tUB t H x o ∧ tUT t H x o ∧ tUY t H x o ∧ tUR t H x o
/-- which places of the rows are a unit's -/
def uPl (H x a k : Int) : Prop := a = H + 170 ∧ 6144 * x ≤ k ∧ k < 6144 * x + 6144 ∨ (a = H + 171 ∨ a = H + 172) ∧ 4 * x ≤ k ∧ k < 4 * x + 4 ∨ a = H + 173 ∧ 1024 * x ≤ k ∧ k < 1024 * x + 1024 ∨ (a = H + 174 ∨ a = H + 175 ∨ a = H + 176 ∨ a = H + 183) ∧ k = x ∨ H + 177 ≤ a ∧ a ≤ H + 181 ∧ 100 * x ≤ k ∧ k < 100 * x + 100 ∨ a = H + 182 ∧ 1600 * x ≤ k ∧ k < 1600 * x + 1600 ∨ H + 184 ≤ a ∧ a ≤ H + 188 ∧ 300 * x ≤ k ∧ k < 300 * x + 300
def tUf (H x : Int) (s u : jS) : Prop := jSm s u ∧ ∀ c a k, ¬ ((c = 1000 ∨ c = 1002) ∧ uPl H x a k) → jf u c a k = jf s c a k
theorem tUf.rfl : tUf H x s s := ⟨jSm.rfl, fun _ _ _ _ => Eq.refl _⟩
theorem tUf.jp (h : tUf H x s u) (hc : c = 1000 ∨ c = 1002) (hp : uPl H x a k) : tUf H x s (jp u c a k v) := ⟨h.1.jp, fun c' a' k' q => by
  rw [jf_neg (by rintro ⟨rfl, rfl, rfl⟩; exact q ⟨hc, hp⟩)]; exact h.2 c' a' k' q⟩
theorem tUf.trans (h : tUf H x s u) (g : tUf H x u w) : tUf H x s w := ⟨h.1.trans g.1, fun c a k q => (g.2 c a k q).trans (h.2 c a k q)⟩
theorem tUn.cg (h : tUn t H x o) (v : vOb o) (F : ∀ c a k, uPl H x a k → jf u c a k = jf t c a k) : tUn u H x o := by
  obtain ⟨h1, h2, ⟨h3, h4, h5⟩, ⟨h6, h7⟩, h8, h9⟩ := h
  obtain ⟨v1, v2, v3, v4, v5, v6⟩ := v
  refine ⟨fun j j0 j1 => ?_, fun j k j0 j1 k0 k1 => ?_, ⟨?_, ?_, fun k k0 k1 => ?_⟩, ⟨?_, fun k k0 k1 => ?_⟩, ?_, fun k k0 k1 => ?_⟩
  · rw [F _ _ _ (by unfold uPl; omega), F _ _ _ (by unfold uPl; omega)]; exact h1 j j0 j1
  · have := (v1 j j0 (by omega)).2.1
    rw [if_neg (by omega)] at this
    rw [F _ _ _ (by unfold uPl; omega)]; exact h2 j k j0 j1 k0 k1
  · rw [F _ _ _ (by unfold uPl; omega)]; exact h3
  · rw [F _ _ _ (by unfold uPl; omega)]; exact h4
  · have := v3.2.1
    rw [F _ _ _ (by unfold uPl; omega)]; exact h5 k k0 k1
  · rw [F _ _ _ (by unfold uPl; omega)]; exact h6
  · have := v3.2.2.2.1
    obtain ⟨a1, a2, a3, a4, a5, a6⟩ := h7 k k0 k1
    have hn := (v5 k k0 k1).2.2.2.2.2.2.2.2.2.1.2.1
    refine ⟨by rw [F _ _ _ (by unfold uPl; omega)]; exact a1, by rw [F _ _ _ (by unfold uPl; omega)]; exact a2, by rw [F _ _ _ (by unfold uPl; omega)]; exact a3, by rw [F _ _ _ (by unfold uPl; omega)]; exact a4, by rw [F _ _ _ (by unfold uPl; omega)]; exact a5, fun i i0 i1 => by rw [F _ _ _ (by unfold uPl; omega)]; exact a6 i i0 i1⟩
  · rw [F _ _ _ (by unfold uPl; omega)]; exact h8
  · have := v3.2.2.2.2.2
    obtain ⟨a1, a2, a3, a4, a5⟩ := h9 k k0 k1
    refine ⟨by rw [F _ _ _ (by unfold uPl; omega)]; exact a1, by rw [F _ _ _ (by unfold uPl; omega)]; exact a2, by rw [F _ _ _ (by unfold uPl; omega)]; exact a3, by rw [F _ _ _ (by unfold uPl; omega)]; exact a4, by rw [F _ _ _ (by unfold uPl; omega)]; exact a5⟩
/-- another unit's are kept -/
theorem tUn.other (h : tUn t H x o) (v : vOb o) (g : tUf H y t u) (hy : ¬ x = y) : tUn u H x o := h.cg v fun c a k q => g.2 c a k fun z => by
  have := z.2
  unfold uPl at q this
  omega
end jUnits
