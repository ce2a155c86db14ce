/-! the two machines: what is alike -/
section jMrel
/-- a byte with sign -/
def sb (v : Int) : Int := if v < 128 then v else v - 256
theorem W8_sb (x : Int) : W8 x = sb (x % 256) := by
  rw [w8_p]; unfold sb Int.bmod
  show (if x % 256 < (256 + 1) / 2 then x % 256 else x % 256 - 256) = _
  rfl
theorem sb_and {v : Int} (h0 : 0 ≤ v) (h1 : v < 256) : I_and (sb v) 255 = v := by
  rw [I_and_255]; unfold sb; split <;> omega
theorem sb_mod {v : Int} (h0 : 0 ≤ v) (h1 : v < 256) : sb v % 256 = v := by unfold sb; split <;> omega
theorem sb_lo {v : Int} (h0 : 0 ≤ v) (h1 : v < 256) : -128 ≤ sb v ∧ sb v ≤ 127 := by unfold sb; split <;> omega
theorem W8_W8 (x : Int) : W8 (W8 x) = sb (x % 256) := by
  have h : 0 ≤ x % 256 ∧ x % 256 < 256 := ⟨Int.emod_nonneg _ (by decide), Int.emod_lt_of_pos _ (by decide)⟩
  rw [W8_sb (W8 x), W8_sb x, sb_mod h.1 h.2]
/-- a function with one other value -/
def jup (f : Int → Int) (k v : Int) : Int → Int := fun x => if x = k then v else f x
theorem jup_a (f : Int → Int) (k v x : Int) : jup f k v x = if x = k then v else f x := rfl
def jupp (f : Int → Int → Int) (a k v : Int) : Int → Int → Int := fun x y => if x = a ∧ y = k then v else f x y
theorem jupp_p (f : Int → Int → Int) (a k v x : Int) : jupp f a k v x = if x = a then jup (f x) k v else f x := by
  funext y
  unfold jupp
  by_cases h : x = a
  · rw [if_pos h, jup_a]
    by_cases e : y = k
    · rw [if_pos ⟨h, e⟩, if_pos e]
    · rw [if_neg (fun q => e q.2), if_neg e]
  · rw [if_neg h, if_neg (fun q => h q.1)]
theorem jupp_a (f : Int → Int → Int) (a k v x y : Int) : jupp f a k v x y = if x = a ∧ y = k then v else f x y := rfl
theorem jfc_jp (s : jS) (c a k v c' : Int) : jf (jp s c a k v) c' = if c' = c then jupp (jf s c') a k v else jf s c' := by
  funext x y
  by_cases h : c' = c
  · rw [if_pos h, jf_jp, jupp_a]
    by_cases e : x = a ∧ y = k
    · rw [if_pos ⟨h, e⟩, if_pos e]
    · rw [if_neg (fun q => e q.2), if_neg e]
  · rw [if_neg h, jf_jp, if_neg (fun q => h q.1)]
/-- only cells from lo on, n of them, differ -/
def jFm (s t : jS) (lo n : Int) : Prop := jSm s t ∧ ∀ c a k, (a < lo ∨ lo + n ≤ a) → jf t c a k = jf s c a k
theorem jFm.rfl {s : jS} {lo n : Int} : jFm s s lo n := ⟨jSm.rfl, fun _ _ _ _ => Eq.refl _⟩
theorem jFm.trans {s t u : jS} {lo n : Int} (h : jFm s t lo n) (g : jFm t u lo n) : jFm s u lo n := ⟨h.1.trans g.1, fun c a k q => (g.2 c a k q).trans (h.2 c a k q)⟩
theorem jFm.jp {s t : jS} {lo n c a k v : Int} (h : jFm s t lo n) (h0 : lo ≤ a) (h1 : a < lo + n) : jFm s (jp t c a k v) lo n :=
  ⟨h.1.jp, fun c' a' k' q => by rw [jf_jp, if_neg (by omega)]; exact h.2 c' a' k' q⟩
theorem jFm.jw {s t : jS} {lo n : Int} {g : Int → Int → Int → Int} (h : jFm s t lo n) (hg : ∀ c a k, (a < lo ∨ lo + n ≤ a) → g c a k = jf t c a k) : jFm s (jw t g) lo n :=
  ⟨h.1, fun c' a' k' q => by rw [jf_jw, hg c' a' k' q]; exact h.2 c' a' k' q⟩
theorem jFm.wide {s t : jS} {lo n lo' n' : Int} (h : jFm s t lo n) (h0 : lo' ≤ lo) (h1 : lo + n ≤ lo' + n') : jFm s t lo' n' := ⟨h.1, fun c a k q => h.2 c a k (by omega)⟩
/-- what the component's machine is made of -/
def MrK (s : jS) (M : Int) : Prop := 0 ≤ M ∧ M + 119 ≤ jn s ∧ jK s (M + 9) = 34 ∧ ∀ i, 0 ≤ i → i ≤ 100 → jK s (M + 18 + i) = 36
theorem MrK.sm {s t : jS} {M : Int} (h : MrK s M) (g : jSm s t) : MrK t M := by
  unfold MrK at *
  rw [g.1, g.2.2.1]; exact h
theorem MrK.w {s : jS} {M : Int} (h : MrK s M) : jTz s 50 (M + 9) := ⟨by have := h.1; omega, by have := h.2.1; omega, h.2.2.1, fun q => absurd q (by decide)⟩
def MrMem (f g : Int → Int) : Prop := ∀ k, 0 ≤ k → k < 131072 → 0 ≤ g k ∧ g k < 256 ∧ f k = sb (g k)
def MrMark (f g : Int → Int) : Prop := ∀ k, 0 ≤ k → k < 65536 → f k = g k
def MrSeg (M : Int) (f : Int → Int → Int) (g1 g2 g3 : Int → Int) : Prop := ∀ k, 0 ≤ k → k < 8 → 0 ≤ g1 k ∧ 0 ≤ g2 k ∧ g1 k + g2 k ≤ 131072 ∧ 0 ≤ g3 k ∧ g3 k ≤ 7 ∧ 0 ≤ f (M + 10 + k) 0 ∧ f (M + 10 + k) 0 ≤ 131072 ∧ f (M + 10 + k) 1 = g2 k ∧ (g2 k = 0 ∨ f (M + 10 + k) 0 = g1 k ∧ f (M + 10 + k) 2 = g3 k)
def MrReg (f g : Int → Int) : Prop := (∀ k, 0 ≤ k → k < 32 → f k = g k ∧ -2147483648 ≤ g k ∧ g k ≤ 2147483647) ∧ g 0 = 0
def MrIn (C D f g : Int → Int) : Prop := C 16 = D 13 ∧ 0 ≤ D 13 ∧ D 13 ≤ 1000 ∧ ∀ k, 0 ≤ k → k < 1000 → 0 ≤ g k ∧ g k < 256 ∧ f k = sb (g k)
def MrOut (f g : Int → Int) : Prop := ∀ k, 0 ≤ k → k < 2000 → 0 ≤ g k ∧ g k < 256 ∧ f k = sb (g k)
def MrHalt (C D f g : Int → Int) : Prop := C 19 = D 9 ∧ 0 ≤ D 9 ∧ D 9 ≤ 8 ∧ ∀ k, 0 ≤ k → k < 8 → f k = g k
/-- marking, pc, state, culprit, value, steps, units, taken, outputs -/
def MrSc (C D : Int → Int) : Prop := C 9 = D 7 ∧ C 10 = D 11 ∧ (-2147483648 ≤ D 11 ∧ D 11 ≤ 2147483647 ∧ D 11 % 2 = 0) ∧ C 11 = D 17 ∧ C 12 = D 18 ∧ C 13 = D 19 ∧ (C 14 = D 20 ∧ -2147483648 ≤ D 20 ∧ D 20 ≤ 2147483647) ∧ (C 15 = D 21 ∧ -2147483648 ≤ D 21 ∧ D 21 ≤ 2147483647) ∧ C 17 = D 14 ∧ 0 ≤ D 14 ∧ D 14 ≤ D 13 ∧ C 18 = D 16 ∧ 0 ≤ D 16 ∧ D 16 ≤ 2000
/-- a record f of one machine, at r of the other one's row g -/
def MrRec (f g : Int → Int) (top r : Int) : Prop := f 0 = g r ∧ (-2147483648 ≤ g r ∧ g r ≤ 2147483647 ∧ g r % 2 = 0) ∧ f 1 = g (r + 1) ∧ f 2 = g (r + 2) ∧ f 3 = g (r + 3) ∧ (f 4 = g (r + 4) ∧ -2147483648 ≤ g (r + 4) ∧ g (r + 4) ≤ 2147483647) ∧ (f 5 = g (r + 5) ∧ -2147483648 ≤ g (r + 5) ∧ g (r + 5) ≤ 2147483647) ∧ f 6 = g (r + 6) ∧ 0 ≤ g (r + 6) ∧ g (r + 6) ≤ 2000 ∧ f 7 = g (r + 7) ∧ 0 ≤ g (r + 7) ∧ g (r + 7) ≤ top ∧
  (g (r + 8) = 0 ∧ f 8 = -1 ∨ 1 ≤ g (r + 8) ∧ g (r + 8) ≤ 31 ∧ f 8 = g (r + 8) ∧ f 9 = g (r + 9) ∧ -2147483648 ≤ g (r + 9) ∧ g (r + 9) ≤ 2147483647) ∧
  (g (r + 10) = -1 ∧ f 11 = 0 ∨ 0 ≤ g (r + 10) ∧ 0 ≤ g (r + 11) ∧ g (r + 11) ≤ 4 ∧ g (r + 10) + g (r + 11) ≤ 131072 ∧ f 10 = g (r + 10) ∧ f 11 = g (r + 11) ∧ -2147483648 ≤ g (r + 12) ∧ g (r + 12) ≤ 2147483647 ∧ 0 ≤ f 12 ∧ f 12 ≤ 4294967295 ∧ ∀ i : Int, 0 ≤ i → i < g (r + 11) → f 12 / 256 ^ i.toNat % 256 = g (r + 12) / 256 ^ i.toNat % 256)
def MrRing (M : Int) (C D : Int → Int) (f : Int → Int → Int) (g : Int → Int) : Prop := 0 ≤ C 20 ∧ C 20 ≤ 100 ∧ C 21 = D 23 ∧ 0 ≤ D 23 ∧ D 23 ≤ 100 ∧ 0 ≤ D 24 ∧ D 24 ≤ 99 ∧ ∀ j, 1 ≤ j → j ≤ D 23 → MrRec (f (M + 18 + (C 20 - j) % 101)) g (D 13) (13 * ((D 24 - j) % 100))
def Mr (s : jS) (M : Int) (t : jS) (U : Int) : Prop := MrK s M ∧ pRows t (U + 1) ∧ MrMem (jf s 1001 (M + 1)) (jf t 1000 (U + 3)) ∧ MrMark (jf s 1002 (M + 2)) (jf t 1002 (U + 4)) ∧ MrSeg M (jf s 35) (jf t 1000 (U + 5)) (jf t 1000 (U + 6)) (jf t 1000 (U + 7)) ∧ MrReg (jf s 1000 (M + 4)) (jf t 1000 (U + 9)) ∧ MrIn (jf s 33 M) (jf t 47 U) (jf s 1001 (M + 6)) (jf t 1000 (U + 10)) ∧ MrOut (jf s 1001 (M + 7)) (jf t 1000 (U + 11)) ∧ MrHalt (jf s 33 M) (jf t 47 U) (jf s 1000 (M + 5)) (jf t 1000 (U + 8)) ∧ MrSc (jf s 33 M) (jf t 47 U) ∧ MrRing M (jf s 33 M) (jf t 47 U) (jf s 36) (jf t 1000 (U + 12))
theorem pRows.at {t t' : jS} {a : Int} (h : pRows t a) (e : jf t' 1000 a = jf t 1000 a) : pRows t' a := fun i h0 h1 => by rw [e]; exact h i h0 h1
/-- what two calls of the machines leave -/
def MrQ (s : jS) (M : Int) (t : jS) (U : Int) (r q : jS × Int) : Prop := r.2 = q.2 ∧ Mr r.1 M q.1 U ∧ jFm s r.1 M 119 ∧ jFm t q.1 U 13
end jMrel
