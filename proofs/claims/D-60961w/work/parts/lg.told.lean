/-! the linker: all is laid out and told; what is written from then on, both sides -/
set_option maxRecDepth 100000
section jLzd
variable {s t u w s' t' : jS} {a b k m n o p v l x c f i H B C P Q S K X : Int} {O : Int → Int → Int → Int → Int} {d e z y : Int → Int → Int} {G : Int → Int}
abbrev cZk (C c a k : Int) : Prop := c = 1001 ∧ C + 4275 + 34 ≤ a ∧ a ≤ C + 4275 + 36 ∨ c = 39 ∧ a = C + 4275 ∧ 35 ≤ k ∧ k ≤ 41 ∨ c = 1002 ∧ a = C + 4275 + 37 ∨ c = 1000 ∧ (a = C + 25 ∨ a = C + 26)
/-- relocating writes: the component -/
def cRW (C : Int) (s u : jS) : Prop := jSm s u ∧ ∀ c a k, ¬ cZk C c a k → jf u c a k = jf s c a k
theorem cRW.rfl : cRW C s s := ⟨jSm.rfl, fun _ _ _ _ => Eq.refl _⟩
theorem cRW.trans (h : cRW C s u) (g : cRW C u w) : cRW C s w := ⟨h.1.trans g.1, fun c a k q => (g.2 c a k q).trans (h.2 c a k q)⟩
theorem cRW.wr {u' : jS} (h : cRW C s u) (e : u' = jp u c a k x) (hc : cZk C c a k) : cRW C s u' := ⟨by rw [e]; exact h.1.jp, fun c' a' k' q => by
  rw [e, jf_neg (by rintro ⟨rfl, rfl, rfl⟩; exact q hc)]; exact h.2 c' a' k' q⟩
/-- and the image is drawn -/
def cZW (C : Int) (s u : jS) : Prop := jSm s u ∧ ∀ c a k, ¬ cZk C c a k → ¬ (C + 3992 ≤ a ∧ a < C + 4029 ∨ lkKp C c a k) → jf u c a k = jf s c a k
theorem cZW.rfl : cZW C s s := ⟨jSm.rfl, fun _ _ _ _ _ => Eq.refl _⟩
theorem cZW.trans (h : cZW C s u) (g : cZW C u w) : cZW C s w := ⟨h.1.trans g.1, fun c a k q q' => (g.2 c a k q q').trans (h.2 c a k q q')⟩
theorem cRW.zw (h : cRW C s u) : cZW C s u := ⟨h.1, fun c a k q _ => h.2 c a k q⟩
theorem cRW.lf (h : cRW C s u) : cLF C s u 0 0 := ⟨jGw.sm h.1 fun c a k hA => by
    unfold lkA at hA
    exact h.2 c a k (fun q => hA (by omega)), fun c a k q => h.2 c a k (by omega), fun q => q.cg (by rw [h.1.2.2.1]; exact Int.le_refl _) (fun _ _ => by rw [h.1.1]) fun c a k q' => h.2 c a k (by omega)⟩
abbrev tZk (H c a k : Int) : Prop := c = 1000 ∧ a = H + 205 ∨ c = 41 ∧ a = H ∧ 113 ≤ k ∧ k ≤ 116 ∨ a = H + 4 ∨ a = H + 6
/-- relocating writes: the twin -/
def tRW (H : Int) (t u : jS) : Prop := jSm t u ∧ ∀ c a k, ¬ tZk H c a k → jf u c a k = jf t c a k
theorem tRW.rfl : tRW H t t := ⟨jSm.rfl, fun _ _ _ _ => Eq.refl _⟩
theorem tRW.trans (h : tRW H t u) (g : tRW H u w) : tRW H t w := ⟨h.1.trans g.1, fun c a k q => (g.2 c a k q).trans (h.2 c a k q)⟩
theorem tRW.wr {u' : jS} (h : tRW H t u) (e : u' = jp u c a k x) (hc : tZk H c a k) : tRW H t u' := ⟨by rw [e]; exact h.1.jp, fun c' a' k' q => by
  rw [e, jf_neg (by rintro ⟨rfl, rfl, rfl⟩; exact q hc)]; exact h.2 c' a' k' q⟩
theorem tW6.rw (h : tW6 H t u) : tRW H t u := ⟨h.1, fun c a k q => h.2 c a k (by omega)⟩
def tZW (H : Int) (t u : jS) : Prop := jSm t u ∧ ∀ c a k, ¬ tZk H c a k → ¬ (H + 118 ≤ a ∧ a < H + 130 ∨ a = H + 3 ∨ H + 206 ≤ a ∧ a ≤ H + 208 ∨ c = 41 ∧ a = H ∧ (k = 3 ∨ k = 4 ∨ k = 102 ∨ k = 103 ∨ k = 109)) → jf u c a k = jf t c a k
theorem tZW.rfl : tZW H t t := ⟨jSm.rfl, fun _ _ _ _ _ => Eq.refl _⟩
theorem tZW.trans (h : tZW H t u) (g : tZW H u w) : tZW H t w := ⟨h.1.trans g.1, fun c a k q q' => (g.2 c a k q q').trans (h.2 c a k q q')⟩
theorem tRW.zw (h : tRW H t u) : tZW H t u := ⟨h.1, fun c a k q _ => h.2 c a k q⟩
theorem tRW.lf (h : tRW H t u) : tLF H t u := ⟨h.1, fun c a k q1 q2 q3 q4 => h.2 c a k (by omega)⟩
theorem tLq.cg2 (h : tLq t X d) (F : ∀ a k, X ≤ a → a ≤ X + 21 → jf u 1000 a k = jf t 1000 a k) : tLq u X d := by
  obtain ⟨h1, h2, h3⟩ := h
  refine ⟨fun k k0 k1 => ?_, fun p p0 p1 => ?_, fun o o0 o1 => ?_⟩
  · rw [F _ _ (by omega) (by omega), F _ _ (by omega) (by omega), F _ _ (by omega) (by omega)]; exact h1 k k0 k1
  · rw [F _ _ (by omega) (by omega), F _ _ (by omega) (by omega)]; exact h2 p p0 p1
  · rw [F _ _ (by omega) (by omega), F _ _ (by omega) (by omega)]; exact h3 o o0 o1
/-- all is laid out, settled and told -/
def LZD (C H S : Int) (O : Int → Int → Int → Int → Int) (s t : jS) (e d z : Int → Int → Int) (G : Int → Int) : Prop := vLy d ∧ (cLs s (C + 4275 + 1) d ∧ cLd s (C + 4275 + 1) d ∧ jf s 40 (C + 4275 + 1) 19 = 1) ∧ (tLs t (H + 93) d ∧ tLq t (H + 93) d) ∧ (cPz C s d z ∧ tPz H t d z) ∧ (lpR H S O t d z e G ∧ (∀ g, 0 ≤ g → g < e 0 0 → e 3 g = 2 → (jf s 1000 (C + 4275 + 22) g = G g ∧ jf t 1000 (H + 195) g = G g)) ∧ ∀ k, 0 ≤ k → k < d 0 1 → pcU S O e d z G k) ∧ (lkB C H S O s t ∧ gGc C S O s e ∧ gFt H S O t e ∧ gFv S O e) ∧ (noT d ∧ szD d) ∧ jf t 41 H 108 = gpK d ∧ ¬ bgD d
theorem LZD.zw (h : LZD C H S O s t e d z G) (hK : ∀ a, C ≤ a → a < C + 15464 → ¬ (70 ≤ jK s a ∧ jK s a ≤ 77)) (g : cZW C s u) (g' : tZW H t w) : LZD C H S O u w e d z G := by
  obtain ⟨v, ⟨c1, c2, c3⟩, ⟨t1, t2⟩, ⟨p1, p2⟩, ⟨r1, r2, r3⟩, ⟨hk, hg, ht, hv⟩, hT, h8, hb⟩ := h
  obtain ⟨m, F⟩ := g
  obtain ⟨m', F'⟩ := g'
  have v0 := v.1
  have v1 := v.2.1
  have v2 := v.2.2.1
  have no : ∀ x, 70 ≤ jK s x ∧ jK s x ≤ 77 → 0 ≤ x → ¬ (C + 3992 ≤ x ∧ x < C + 4029) := fun x hx x0 q => hK x (by omega) (by omega) hx
  have eP : ∀ p, poP u (C + 4275 + 1) p = poP s (C + 4275 + 1) p := fun p => F _ _ _ (by omega) (by omega)
  have eK : ∀ p, poK u (C + 4275 + 1) p = poK s (C + 4275 + 1) p := fun p => F _ _ _ (by omega) (by omega)
  have eL : ∀ p, poL u (C + 4275 + 1) p = poL s (C + 4275 + 1) p := fun p => F _ _ _ (by omega) (by omega)
  have nP : ∀ p, 0 ≤ p → p < d 0 0 → ¬ (C + 3992 ≤ poP s (C + 4275 + 1) p ∧ poP s (C + 4275 + 1) p < C + 4029) := fun p p0 p1 => by
    obtain ⟨⟨a1, a2, a3⟩, -⟩ := c1.2.2.2.1 p p0 p1
    exact no _ (by omega) a1
  have nK : ∀ p, 0 ≤ p → p < d 0 1 → ¬ (C + 3992 ≤ poK s (C + 4275 + 1) p ∧ poK s (C + 4275 + 1) p < C + 4029) := fun p p0 p1 => by
    obtain ⟨⟨a1, a2, a3⟩, -⟩ := c1.2.2.2.2.1 p p0 p1
    have kk := kOf_c (f := d 5 p)
    exact no _ (by omega) a1
  have nL : ∀ p, 0 ≤ p → p < d 0 2 → ¬ (C + 3992 ≤ poL s (C + 4275 + 1) p ∧ poL s (C + 4275 + 1) p < C + 4029) := fun p p0 p1 => by
    obtain ⟨⟨a1, a2, a3⟩, -⟩ := c1.2.2.2.2.2.1 p p0 p1
    exact no _ (by omega) a1
  refine ⟨v, ⟨c1.cg v (by rw [m.2.2.1]; exact Int.le_refl _) (fun a _ => ⟨by rw [m.1], by rw [m.2.1]⟩) (fun k _ _ => F _ _ _ (by omega) (by omega)) (fun k => F _ _ _ (by omega) (by omega)) (fun p _ _ => eP p) (fun p _ _ => eK p) (fun p _ _ => eL p) (fun p p0 p1 k => F _ _ _ (by omega) (by have := nP p p0 p1; omega)) (fun p p0 p1 c j hc => F _ _ _ (by omega) (by have := nK p p0 p1; omega)) (fun p p0 p1 k => F _ _ _ (by omega) (by have := nL p p0 p1; omega)), ?_, by rw [F _ _ _ (by omega) (by omega)]; exact c3⟩, ⟨t1.fr fun c a k q => F' _ _ _ (by omega) (by omega), t2.cg2 fun a k a0 a1 => F' _ _ _ (by omega) (by omega)⟩, ⟨p1.cg (fun a k a0 a1 => F _ _ _ (by omega) (by omega)) (F _ _ _ (by omega) (by omega)), p2.cg fun a k a0 a1 => F' _ _ _ (by omega) (by omega)⟩, ⟨r1.fr fun k => F' _ _ _ (by omega) (by omega), fun g g0 g1 g2 => by rw [F _ _ _ (by omega) (by omega), F' _ _ _ (by omega) (by omega)]; exact r2 g g0 g1 g2, r3⟩, ⟨hk.kp (by rw [m.2.2.1]; exact Int.le_refl _) (fun a a0 a1 => ⟨by rw [m.1], by rw [m.2.1], fun c k => F _ _ _ (by omega) (by omega)⟩) (F _ _ _ (by omega) (by omega)) (fun k => F _ _ _ (by omega) (by omega)) (fun c a k a0 a1 => F' _ _ _ (by omega) (by omega)) (F' _ _ _ (by omega) (by omega)) (F' _ _ _ (by omega) (by omega)), hg.cg (fun a k a0 a1 => F _ _ _ (by omega) (by omega)) (F _ _ _ (by omega) (by omega)), ht.cg (fun a k a0 a1 a2 => F' _ _ _ (by omega) (by omega)) (F' _ _ _ (by omega) (by omega)), hv⟩, hT, by rw [F' _ _ _ (by omega) (by omega)]; exact h8, hb⟩
  obtain ⟨g1, g2, g3⟩ := c2
  refine ⟨fun k k0 k1 => ?_, fun p p0 p1 => ?_, fun o o0 o1 => ?_⟩
  · have kk := kOf_c (f := d 5 k)
    have := g1 k k0 k1
    unfold pcX at this ⊢
    rw [eK, F _ _ _ (by omega) (by have := nK k k0 k1; omega)]; exact this
  · rw [eP, F _ _ _ (by omega) (by have := nP p p0 p1; omega), F _ _ _ (by omega) (by have := nP p p0 p1; omega)]; exact g2 p p0 p1
  · rw [F _ _ _ (by omega) (by omega), F _ _ _ (by omega) (by omega)]; exact g3 o o0 o1
end jLzd
