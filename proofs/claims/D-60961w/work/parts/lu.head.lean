/-! the linker: where a relocation's bytes lie, both sides *-/
set_option maxRecDepth 100000
section jLhd
variable {s t u w s' t' : jS} {a b k m n o p q v l x c f g i j A H C K S X P Q rr : Int} {O : Int → Int → Int → Int → Int} {d e z y : Int → Int → Int} {G : Int → Int}
/-- one relocation's writes: the component -/
abbrev cSk (C c a k : Int) : Prop := c = 1001 ∧ C + 4275 + 34 ≤ a ∧ a ≤ C + 4275 + 36 ∨ c = 39 ∧ a = C + 4275 ∧ 37 ≤ k ∧ k ≤ 41
def cRS (C : Int) (s u : jS) : Prop := jSm s u ∧ ∀ c a k, ¬ cSk C c a k → jf u c a k = jf s c a k
theorem cRS.rfl : cRS C s s := ⟨jSm.rfl, fun _ _ _ _ => Eq.refl _⟩
theorem cRS.trans (h : cRS C s u) (g : cRS C u w) : cRS C s w := ⟨h.1.trans g.1, fun c a k q => (g.2 c a k q).trans (h.2 c a k q)⟩
theorem cRS.wr {u' : jS} (h : cRS C s u) (e : u' = jp u c a k x) (hc : cSk C c a k) : cRS C s u' := ⟨by rw [e]; exact h.1.jp, fun c' a' k' q => by
  rw [e, jf_neg (by rintro ⟨rfl, rfl, rfl⟩; exact q hc)]; exact h.2 c' a' k' q⟩
theorem cRS.rw (h : cRS C s u) : cRW C s u := ⟨h.1, fun c a k q => h.2 c a k (by omega)⟩
abbrev tSk (H c a k : Int) : Prop := c = 1000 ∧ a = H + 205 ∨ c = 41 ∧ a = H ∧ 114 ≤ k ∧ k ≤ 116 ∨ a = H + 4 ∨ a = H + 6
def tRS (H : Int) (t u : jS) : Prop := jSm t u ∧ ∀ c a k, ¬ tSk H c a k → jf u c a k = jf t c a k
theorem tRS.rfl : tRS H t t := ⟨jSm.rfl, fun _ _ _ _ => Eq.refl _⟩
theorem tRS.trans (h : tRS H t u) (g : tRS H u w) : tRS H t w := ⟨h.1.trans g.1, fun c a k q => (g.2 c a k q).trans (h.2 c a k q)⟩
theorem tRS.wr {u' : jS} (h : tRS H t u) (e : u' = jp u c a k x) (hc : tSk H c a k) : tRS H t u' := ⟨by rw [e]; exact h.1.jp, fun c' a' k' q => by
  rw [e, jf_neg (by rintro ⟨rfl, rfl, rfl⟩; exact q hc)]; exact h.2 c' a' k' q⟩
theorem tRS.rw (h : tRS H t u) : tRW H t u := ⟨h.1, fun c a k q => h.2 c a k (by omega)⟩
theorem tW6.rs (h : tW6 H t u) : tRS H t u := ⟨h.1, fun c a k q => h.2 c a k (by omega)⟩
/-- all that relocating stands on -/
def rlS (C H S : Int) (O : Int → Int → Int → Int → Int) (s t : jS) (e d z : Int → Int → Int) (G : Int → Int) : Prop := LZD C H S O s t e d z G ∧ wrS C H s t ∧ cKdl C s ∧ outK C s
theorem wrS.rw (h : wrS C H s t) (hn : C + 15464 ≤ jn s) (g : cRW C s u) (g' : tRW H t w) : wrS C H u w := by
  obtain ⟨⟨h1, h2⟩, h3, h4⟩ := h
  have k1 : jK s (C + 25) = 1000 := by have := h2.2.2.2.1.1; rw [show C + 1 + 24 = C + 25 by omega] at this; exact this
  have k2 : jK s (C + 26) = 1000 := by have := h2.2.2.2.1.2; rw [show C + 1 + 25 = C + 26 by omega] at this; exact this
  have g1 : jGw s u 0 0 (fun a => C + 4148 ≤ a ∨ jK s a = 1000 ∧ (a = C + 1 + 24 ∨ a = C + 1 + 25)) := jGw.sm g.1 fun c a k hA => g.2 c a k fun q => by
    rcases q with q | q | q | q
    · exact hA (.inl (by omega))
    · exact hA (.inl (by omega))
    · exact hA (.inl (by omega))
    · rcases q.2 with q' | q'
      · exact hA (.inr ⟨by rw [q']; exact k1, by omega⟩)
      · exact hA (.inr ⟨by rw [q']; exact k2, by omega⟩)
  refine ⟨h1.gl h2 g1 fun a ha => ha, fun i i0 i1 => ?_, fun a ha => by rw [g.1.1]; exact h4 a ha⟩
  rw [g'.2 _ _ _ (by omega)]; exact h3 i i0 i1
theorem cKdl.sm (h : cKdl C s) (m : jSm s u) (F : ∀ c a k, ¬ lkA C s a → jf u c a k = jf s c a k) (h0 : 0 ≤ C) (hn : C + 15464 ≤ jn s) : cKdl C u := h.gA h0 hn (jGw.sm m fun c a k hA => F c a k hA)
theorem rlS.rw (h : rlS C H S O s t e d z G) (g : cRW C s u) (g' : tRW H t w) : rlS C H S O u w e d z G := by
  obtain ⟨h1, h2, h3, h4⟩ := h
  have hC := h1.2.2.2.2.2.1.1.1
  refine ⟨h1.zw (fun a a0 a1 => h2.2.2 a a1) g.zw g'.zw, h2.rw hC.2 g g', h3.sm g.1 (fun c a k hA => g.2 c a k fun q => hA ?_) hC.1 hC.2, h4.cg g.1⟩
  unfold lkA; omega
/-- the same fault -/
theorem rl_bad (h : rlS C H S O s t e d z G) (hb : jBd s 1 6) (hu : jf s 39 (C + 4275) 35 = x) (hk : jf s 39 (C + 4275) 36 = j) (hu' : jf t 41 H 113 = x) (x0 : 0 ≤ x) (x1 : x < 6) (j0 : 0 ≤ j) (j1 : j < 300) (hf : ¬ f = 0) : ∃ u e w, m_X35_need s (C + 4275) 0 f = some (u, true, e) ∧ m_X37_wrong t H f (300 * x + j) = some (w, 0) ∧ lkX C H s t 1 6 (u, true, e) w ∧ 0 ≤ e := by
  obtain ⟨hC, -, -, -, -, ht⟩ := h.1.2.2.2.2.2.1.1
  obtain ⟨u, e, w, e1, e2, e0, hx⟩ := lkX.mk (C := C) (H := H) (f := f) (s := s) (t := t) (by omega) hb (by omega) ht hf x j
  refine ⟨u, e, w, ?_, ?_, hx, e0⟩
  · rw [em_X35_need]; unfold dm_X35_need
    rw [if_pos rfl, em_X35_wrong_2]; unfold dm_X35_wrong_2
    rw [hu, hk, e1, Option.bind_some]
    dsimp only
    rw [Option.bind_some]
    exact jck0_in e0
  · rw [em_X37_wrong]; unfold dm_X37_wrong
    rw [hu', W32_in (z := 300 * x) (by omega) (by omega), W32_in (by omega) (by omega), show 300 * x + j - 300 * x = j by omega, e2, Option.bind_some, Wz_0]
/-- the faults of a later state -/
theorem lkX.rs {r : jS × Bool × Int} (h : lkX C H u w P Q r s') (g : cRW C s u) (g' : tRW H t w) : lkX C H s t P Q r s' := by
  have := h.pre g.lf g'.lf
  rw [Int.zero_add, Int.zero_add] at this; exact this
/-- after the head of a relocation; K = its own piece, or -1; A = its place in the output -/
def hdR (C H : Int) (s t : jS) (x j K A p f : Int) : Prop := (jf s 39 (C + 4275) 35 = x ∧ jf s 39 (C + 4275) 36 = j ∧ jf s 39 (C + 4275) 37 = K ∧ jf s 39 (C + 4275) 38 = A ∧ jf s 39 (C + 4275) 41 = p) ∧ jf t 41 H 113 = x ∧ jf t 41 H 114 = K ∧ jf t 41 H 115 = 4096 * f + A ∧ jf t 41 H 116 = p
end jLhd
