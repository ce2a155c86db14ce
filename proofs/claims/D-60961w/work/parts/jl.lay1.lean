/-! the component's layout: what it is, and how places are reckoned -/
set_option maxRecDepth 100000
section jLay1
variable {s t u w : jS} {a k m o p v l n x y c j A B f : Int} {d : Int → Int → Int}
def kOf (S : Int) : Int := if S = 0 then 72 else if S = 4 then 73 else if S = 1 then 76 else 77
def ofK (S : Int) : Int := if S = 0 then 0 else if S = 4 then 0 else 4
/-- the objects of pieces, parts, labels -/
abbrev poK (s : jS) (B k : Int) : Int := jf s 1020 (B + 2) k
abbrev poP (s : jS) (B p : Int) : Int := jf s 1019 (B + 1) p
abbrev poL (s : jS) (B l : Int) : Int := jf s 1017 (B + 3) l
/-- a slot that all pieces have: 0 part, 1 place, 2 next -/
def pcX (s : jS) (B : Int) (d : Int → Int → Int) (k j : Int) : Int := jf s (kOf (d 5 k)) (poK s B k) (j + ofK (d 5 k))
def cPc (s : jS) (B : Int) (d : Int → Int → Int) (k : Int) : Prop := (0 ≤ poK s B k ∧ poK s B k < jn s ∧ jK s (poK s B k) = kOf (d 5 k)) ∧ (pcX s B d k 0 = poP s B (d 11 k) ∧ pcX s B d k 2 = if k + 1 < d 4 (d 11 k) then poK s B (k + 1) else -1) ∧ (d 5 k = 0 → jf s 72 (poK s B k) 3 = d 6 k) ∧ (d 5 k = 4 → jf s 73 (poK s B k) 3 = d 7 k ∧ jf s 73 (poK s B k) 4 = d 6 k) ∧
  (mvK d k → jf s (kOf (d 5 k)) (poK s B k) 0 = poL s B (d 8 k) ∧ jf s (kOf (d 5 k)) (poK s B k) 1 = d 9 k ∧ jf s (kOf (d 5 k)) (poK s B k) 2 = d 15 k ∧ jf s (kOf (d 5 k)) (poK s B k) 3 = d 16 k) ∧ (d 5 k = 1 → jf s 76 (poK s B k) 7 = d 10 k) ∧ (d 5 k = 2 → jf s 77 (poK s B k) 7 = 1 ∧ jf s 77 (poK s B k) 8 = d 10 k) ∧ (d 5 k = 3 → jf s 77 (poK s B k) 7 = 0)
def cPt (s : jS) (B : Int) (d : Int → Int → Int) (p : Int) : Prop := (0 ≤ poP s B p ∧ poP s B p < jn s ∧ jK s (poP s B p) = 70) ∧ jf s 70 (poP s B p) 0 = d 1 p ∧ jf s 70 (poP s B p) 1 = d 2 p ∧ jf s 70 (poP s B p) 4 = 0 ∧ (jf s 70 (poP s B p) 6 = if d 3 p < d 4 p then poK s B (d 3 p) else -1) ∧ jf s 70 (poP s B p) 7 = if d 3 p < d 4 p then poK s B (d 4 p - 1) else -1
def cLb (s : jS) (B : Int) (d : Int → Int → Int) (l : Int) : Prop := (0 ≤ poL s B l ∧ poL s B l < jn s ∧ jK s (poL s B l) = 74) ∧ (jf s 74 (poL s B l) 0 = if d 12 l = -1 then -1 else poK s B (d 12 l)) ∧ jf s 74 (poL s B l) 1 = d 13 l
/-- what is laid out, but for places -/
def cLs (s : jS) (B : Int) (d : Int → Int → Int) : Prop := (0 ≤ B ∧ B + 11 < jn s ∧ jK s (B + 2) = 1020 ∧ jN s (B + 2) = 256) ∧ (jf s 40 B 15 = d 0 0 ∧ jf s 40 B 16 = d 0 1 ∧ jf s 40 B 17 = d 0 2 ∧ jf s 40 B 18 = d 0 3) ∧ (∀ o, 0 ≤ o → o < 4 → jf s 1000 (B + 8) o = d 14 o) ∧ (∀ p, 0 ≤ p → p < d 0 0 → cPt s B d p) ∧ (∀ k, 0 ≤ k → k < d 0 1 → cPc s B d k) ∧ (∀ l, 0 ≤ l → l < d 0 2 → cLb s B d l) ∧
  (∀ p q, 0 ≤ p → p < d 0 0 → 0 ≤ q → q < d 0 0 → ¬ p = q → ¬ poP s B p = poP s B q) ∧ (∀ k q, 0 ≤ k → k < d 0 1 → 0 ≤ q → q < d 0 1 → ¬ k = q → ¬ poK s B k = poK s B q) ∧ ∀ l q, 0 ≤ l → l < d 0 2 → 0 ≤ q → q < d 0 2 → ¬ l = q → ¬ poL s B l = poL s B q
/-- the places -/
def cLd (s : jS) (B : Int) (d : Int → Int → Int) : Prop := (∀ k, 0 ≤ k → k < d 0 1 → pcX s B d k 1 = plK d k) ∧ (∀ p, 0 ≤ p → p < d 0 0 → jf s 70 (poP s B p) 2 = paB d p ∧ jf s 70 (poP s B p) 3 = paE d p) ∧ ∀ o, 0 ≤ o → o < 4 → jf s 1000 (B + 9) o = ouB d o ∧ jf s 1000 (B + 10) o = ouE d o
/-- only places are written -/
def lyW (B : Int) (s u : jS) : Prop := jSm s u ∧ ∀ c a k, ¬ (c = 70 ∧ (k = 2 ∨ k = 3) ∧ 70 ≤ jK s a ∧ jK s a ≤ 77) → ¬ ((c = 72 ∨ c = 73) ∧ k = 1 ∧ 70 ≤ jK s a ∧ jK s a ≤ 77) → ¬ ((c = 76 ∨ c = 77) ∧ k = 5 ∧ 70 ≤ jK s a ∧ jK s a ≤ 77) → ¬ (c = 1000 ∧ (a = B + 9 ∨ a = B + 10 ∨ a = B + 11)) → ¬ (c = 40 ∧ a = B ∧ k = 19) → jf u c a k = jf s c a k
theorem lyW.rfl : lyW B s s := ⟨jSm.rfl, fun _ _ _ _ _ _ _ _ => Eq.refl _⟩
theorem lyW.trans (h : lyW B s u) (g : lyW B u w) : lyW B s w := ⟨h.1.trans g.1, fun c a k q1 q2 q3 q4 q5 => (g.2 c a k (by rw [h.1.1]; exact q1) (by rw [h.1.1]; exact q2) (by rw [h.1.1]; exact q3) q4 q5).trans (h.2 c a k q1 q2 q3 q4 q5)⟩
theorem lyW.jp (h : lyW B s u) (hc : c = 70 ∧ (k = 2 ∨ k = 3) ∧ 70 ≤ jK s a ∧ jK s a ≤ 77 ∨ (c = 72 ∨ c = 73) ∧ k = 1 ∧ 70 ≤ jK s a ∧ jK s a ≤ 77 ∨ (c = 76 ∨ c = 77) ∧ k = 5 ∧ 70 ≤ jK s a ∧ jK s a ≤ 77 ∨ c = 1000 ∧ (a = B + 9 ∨ a = B + 10 ∨ a = B + 11) ∨ c = 40 ∧ a = B ∧ k = 19) : lyW B s (jp u c a k v) := ⟨h.1.jp, fun c' a' k' q1 q2 q3 q4 q5 => by
  have e := h.2 c' a' k' q1 q2 q3 q4 q5
  rw [jf_neg, e]
  rintro ⟨rfl, rfl, rfl⟩
  clear e
  omega⟩
theorem kOf_c : kOf f = 72 ∧ ofK f = 0 ∧ f = 0 ∨ kOf f = 73 ∧ ofK f = 0 ∧ f = 4 ∨ kOf f = 76 ∧ ofK f = 4 ∧ f = 1 ∨ kOf f = 77 ∧ ofK f = 4 ∧ ¬ f = 0 ∧ ¬ f = 4 ∧ ¬ f = 1 := by
  unfold kOf ofK
  by_cases c0 : f = 0
  · simp [c0]
  by_cases c4 : f = 4
  · simp [c4]
  by_cases c1 : f = 1
  · simp [c1]
  · rw [if_neg c0, if_neg c4, if_neg c1, if_neg c0, if_neg c4]; omega
theorem lyW.po (h : lyW B s u) : (∀ k, poK u B k = poK s B k) ∧ (∀ k, poP u B k = poP s B k) ∧ ∀ k, poL u B k = poL s B k := ⟨fun k => h.2 _ _ _ (by omega) (by omega) (by omega) (by omega) (by omega), fun k => h.2 _ _ _ (by omega) (by omega) (by omega) (by omega) (by omega), fun k => h.2 _ _ _ (by omega) (by omega) (by omega) (by omega) (by omega)⟩
/-- slots of a piece that are no place -/
theorem lyW.pc (h : lyW B s u) (hj : ¬ j = 1 + ofK f) (a : Int) : jf u (kOf f) a j = jf s (kOf f) a j := by
  have := kOf_c (f := f)
  exact h.2 _ _ _ (by omega) (by omega) (by omega) (by omega) (by omega)
theorem cLs.keep (h : cLs s B d) (g : lyW B s u) : cLs u B d := by
  obtain ⟨h1, h2, h3, h4, h5, h6, h7, h8, h9⟩ := h
  obtain ⟨e1, e2, e3⟩ := g.po
  obtain ⟨m1, m2, m3, -⟩ := g.1
  have F := g.2
  refine ⟨by rw [m1, m2, m3]; exact h1, ?_, fun o o0 o1 => ?_, fun p p0 p1 => ?_, fun k k0 k1 => ?_, fun l l0 l1 => ?_, fun p q => ?_, fun p q => ?_, fun p q => ?_⟩
  · rw [F _ _ _ (by omega) (by omega) (by omega) (by omega) (by omega), F _ _ _ (by omega) (by omega) (by omega) (by omega) (by omega), F _ _ _ (by omega) (by omega) (by omega) (by omega) (by omega), F _ _ _ (by omega) (by omega) (by omega) (by omega) (by omega)]
    exact h2
  · rw [F _ _ _ (by omega) (by omega) (by omega) (by omega) (by omega)]; exact h3 o o0 o1
  · have := h4 p p0 p1
    unfold cPt at this ⊢
    have G : ∀ a j, ¬ (j = 2 ∨ j = 3) → jf u 70 a j = jf s 70 a j := fun a j hj => F _ _ _ (by omega) (by omega) (by omega) (by omega) (by omega)
    rw [e2, e1, e1, m3, m1, G _ 0 (by omega), G _ 1 (by omega), G _ 4 (by omega), G _ 6 (by omega), G _ 7 (by omega)]
    exact this
  · have := h5 k k0 k1
    unfold cPc pcX at this ⊢
    have kk := kOf_c (f := d 5 k)
    rw [e1, e1, e2, e3, m3, m1, g.pc (by omega), g.pc (by omega)]
    obtain ⟨q1, q2, q3, q4, q5, q6, q7, q8⟩ := this
    refine ⟨q1, q2, fun z => ?_, fun z => ?_, fun z => ?_, fun z => ?_, fun z => ?_, fun z => ?_⟩
    · rw [F _ _ _ (by omega) (by omega) (by omega) (by omega) (by omega)]; exact q3 z
    · rw [F _ _ _ (by omega) (by omega) (by omega) (by omega) (by omega), F _ _ _ (by omega) (by omega) (by omega) (by omega) (by omega)]; exact q4 z
    · unfold mvK at z
      rw [g.pc (by omega), g.pc (by omega), g.pc (by omega), g.pc (by omega)]
      exact q5 (by unfold mvK; exact z)
    · rw [F _ _ _ (by omega) (by omega) (by omega) (by omega) (by omega)]; exact q6 z
    · rw [F _ _ _ (by omega) (by omega) (by omega) (by omega) (by omega), F _ _ _ (by omega) (by omega) (by omega) (by omega) (by omega)]; exact q7 z
    · rw [F _ _ _ (by omega) (by omega) (by omega) (by omega) (by omega)]; exact q8 z
  · have := h6 l l0 l1
    unfold cLb at this ⊢
    rw [e3, e1, m3, m1, F _ _ _ (by omega) (by omega) (by omega) (by omega) (by omega), F _ _ _ (by omega) (by omega) (by omega) (by omega) (by omega)]
    exact this
  · rw [e2, e2]; exact h7 p q
  · rw [e1, e1]; exact h8 p q
  · rw [e3, e3]; exact h9 p q
/-- types of objects -/
theorem leafT {ty : Nat} (h1 : jStr ty = []) (h2 : jStA ty = none) (h3 : ty < 1048576) (h4 : 0 ≤ v ∧ v < jn s ∧ jK s v = (ty : Int) - 16) : jTt s ty v := by
  rw [jTt_iff]
  refine ⟨⟨h4.1, h4.2.1, ?_, fun h => by omega⟩, (fun e he => by rw [h1] at he; cases he), fun q hq => by rw [h2] at hq; cases hq⟩
  unfold jTk; rw [if_pos h3]; exact h4.2.2
/-- the size of a piece at its place -/
theorem c_sizeK (v : vLy d) (h : cPc s B d k) (k0 : 0 ≤ k) (k1 : k < d 0 1) (hp : pcX s B d k 1 = a) (ha : 0 ≤ a ∧ a ≤ 7100000) : mp_X53_size s (poK s B k) = some (szK d k a) := by
  obtain ⟨⟨q1, q1', q1''⟩, q2, q3, q4, q5, q6, q7, q8⟩ := h
  obtain ⟨g5, g11, g6, g7, gm⟩ := v.2.2.2.2.2.2.1 k k0 k1
  rw [emp_X53_size]; unfold dmp_X53_size szK
  have kk := kOf_c (f := d 5 k)
  unfold pcX at hp
  rcases kk with ⟨e1, e2, e3⟩ | ⟨e1, e2, e3⟩ | ⟨e1, e2, e3⟩ | ⟨e1, e2, e3, e4, e5⟩
  · rw [e1] at q1''
    rw [if_pos ⟨q1, q1''⟩, jct_in (leafT (ty := 88) rfl rfl (by decide) ⟨q1, q1', q1''⟩), em_X54_size, if_pos e3]; unfold dm_X54_size
    rw [q3 e3]
  · rw [e1] at q1'' hp
    rw [e2, show (1 : Int) + 0 = 1 by decide] at hp
    rw [if_neg (by omega), if_pos ⟨q1, q1''⟩, jct_in (leafT (ty := 89) rfl rfl (by decide) ⟨q1, q1', q1''⟩), em_X55_size, if_neg (by omega), if_pos e3]; unfold dm_X55_size
    obtain ⟨g1, g2, g3⟩ := g7 e3
    have u := up2_lo (a := a) g2 g3
    rw [em_X55_lack]; unfold dm_X55_lack
    rw [hp, (q4 e3).1, (q4 e3).2, c_up (by omega) (by omega) g2 g3, Option.bind_some, Option.bind_some, W32_in (by omega) (by omega)]
    rfl
  · rw [e1] at q1''
    have hm : mvK d k := by unfold mvK; omega
    rw [if_neg (by omega), if_neg (by omega), if_pos ⟨q1, q1''⟩, em_X57_size, if_neg (by omega), if_neg (by omega)]; unfold dm_X57_size
    have := (q5 hm).2.2.1
    rw [e1] at this
    show ((if 0 ≤ poK s B k ∧ jK s (poK s B k) = 76 then some (jf s 76 (poK s B k) 2) else _).bind _) = _
    rw [if_pos ⟨q1, q1''⟩, this]; rfl
  · rw [e1] at q1''
    have hm : mvK d k := by unfold mvK; omega
    rw [if_neg (by omega), if_neg (by omega), if_neg (by omega), if_pos ⟨q1, q1''⟩, em_X57_size, if_neg (by omega), if_neg (by omega)]; unfold dm_X57_size
    have := (q5 hm).2.2.1
    rw [e1] at this
    show ((if 0 ≤ poK s B k ∧ jK s (poK s B k) = 76 then _ else if 0 ≤ poK s B k ∧ jK s (poK s B k) = 77 then some (jf s 77 (poK s B k) 2) else _).bind _) = _
    rw [if_neg (by omega), if_pos ⟨q1, q1''⟩, this]; rfl
end jLay1
