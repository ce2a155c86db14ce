/-! the linker: parts and plain pieces are laid out, both sides -/
set_option maxRecDepth 100000
section jBuild
variable {s t u w r q' : jS} {a b g k m n p v l x y c j X f i H C P Q P' Q' S : Int} {O : Int → Int → Int → Int → Int} {o : Int → Int → Int → Int} {d d' e z : Int → Int → Int} {E V : Int → Int}
/-- what is written while pieces are laid out: the component -/
def cBW (C : Int) (s u : jS) (P Q : Int) : Prop := jGw s u P Q (fun a => (C + 4275 ≤ a ∧ a < C + 4316) ∨ 70 ≤ jK s a ∧ jK s a ≤ 77) ∧ ∀ c a k, ¬ lKk c → ¬ (c = 1000 ∧ C + 4275 + 9 ≤ a ∧ a ≤ C + 4275 + 12) → ¬ (c = 39 ∧ a = C + 4275 ∧ 29 ≤ k ∧ k ≤ 31) → ¬ (c = 1000 ∧ C + 4275 + 22 ≤ a ∧ a ≤ C + 4275 + 32) → ¬ (c = 1002 ∧ a = C + 4275 + 37) → jf u c a k = jf s c a k
theorem cBW.rfl : cBW C s s 0 0 := ⟨.rfl, fun _ _ _ _ _ _ _ _ => Eq.refl _⟩
theorem cBW.trans (h : cBW C s u P Q) (g : cBW C u w P' Q') : cBW C s w (P + P') (Q + Q') := ⟨h.1.trans g.1 fun a ha q => by
  rcases q with q | q
  · exact q
  · rw [h.1.K ha] at q; exact q, fun c a k q1 q2 q3 q4 q5 => (g.2 c a k q1 q2 q3 q4 q5).trans (h.2 c a k q1 q2 q3 q4 q5)⟩
theorem cBW.mono (h : cBW C s u P Q) (h1 : P ≤ P') (h2 : Q ≤ Q') : cBW C s u P' Q' := ⟨h.1.mono h1 h2 fun _ _ q => q, h.2⟩
theorem cBW.wr {v2 : jS} (h : cBW C s u P Q) (e : v2 = jp u c a k x) (ha : C + 4275 ≤ a ∧ a < C + 4316) (hc : c = 39 ∧ a = C + 4275 ∧ 29 ≤ k ∧ k ≤ 31 ∨ c = 1000 ∧ C + 4275 + 22 ≤ a ∧ a ≤ C + 4275 + 32 ∨ c = 1002 ∧ a = C + 4275 + 37) : cBW C s v2 P Q := ⟨by rw [e]; exact h.1.jp (.inl (.inl ha)), fun c' a' k' q1 q2 q3 q4 q5 => by
  rw [e, jf_neg (by rintro ⟨rfl, rfl, rfl⟩; rcases hc with z | z | z; exact q3 z; exact q4 z; exact q5 z)]; exact h.2 c' a' k' q1 q2 q3 q4 q5⟩
theorem lbW.bw (h : lbW (C + 4275 + 1) s u P Q) : cBW C s u P Q := ⟨h.1.mono (Int.le_refl _) (Int.le_refl _) fun a _ q => by
  rcases q with q | q
  · exact .inl (by omega)
  · exact .inr q, fun c a k q1 q2 _ _ _ => h.2 c a k q1 (by omega)⟩
theorem cBW.gA (h : cBW C s u P Q) : jGw s u P Q (lkA C s) := h.1.mono (Int.le_refl _) (Int.le_refl _) fun a _ q => by
  rcases q with q | q
  · exact .inr (.inl q)
  · exact .inr (.inr (.inr q))
theorem cBW.lf (h : cBW C s u P Q) (hp : cPool u (C + 4275 + 1)) : cLF C s u P Q := ⟨h.gA, fun c a k q => h.2 c a k (by omega) (by omega) (by omega) (by omega) (by omega), fun _ => hp⟩
/-- the twin -/
def tBW (H : Int) (t u : jS) : Prop := jSm t u ∧ ∀ c a k, ¬ (H + 93 ≤ a ∧ a ≤ H + 117) → ¬ (c = 1000 ∧ (a = H + 195 ∨ H + 197 ≤ a ∧ a ≤ H + 204) ∨ a = H + 4 ∨ a = H + 6) → jf u c a k = jf t c a k
theorem tBW.rfl : tBW H t t := ⟨jSm.rfl, fun _ _ _ _ _ => Eq.refl _⟩
theorem tBW.trans (h : tBW H t u) (g : tBW H u w) : tBW H t w := ⟨h.1.trans g.1, fun c a k q1 q2 => (g.2 c a k q1 q2).trans (h.2 c a k q1 q2)⟩
theorem tBW.wr {v2 : jS} (h : tBW H t u) (e : v2 = jp u 1000 a k x) (hc : a = H + 195 ∨ H + 197 ≤ a ∧ a ≤ H + 204) : tBW H t v2 := ⟨by rw [e]; exact h.1.jp, fun c' a' k' q1 q2 => by
  rw [e, jf_neg (by rintro ⟨rfl, rfl, rfl⟩; exact q2 (.inl ⟨Eq.refl _, hc⟩))]; exact h.2 c' a' k' q1 q2⟩
theorem tbW.bw (h : tbW (H + 93) t u) : tBW H t u := ⟨h.1, fun c a k q1 q2 => h.2 c a k (by omega) (by omega)⟩
theorem tBW.lf (h : tBW H t u) : tLF H t u := ⟨h.1, fun c a k q1 q2 q3 q4 => h.2 c a k (by omega) (by omega)⟩
theorem lkB.bw (h : lkB C H S O s t) (g : cBW C s u P Q) (hK : ∀ a, C ≤ a → a < C + 15464 → jK s a < 3000 ∧ ¬ (70 ≤ jK s a ∧ jK s a ≤ 77)) (g' : tBW H t w) : lkB C H S O u w := h.kp g.1.n (fun a a0 a1 => by
  have hn := h.1.2
  have hA : ¬ ((C + 4275 ≤ a ∧ a < C + 4316) ∨ 70 ≤ jK s a ∧ jK s a ≤ 77) := fun q => by
    rcases q with q | q
    · omega
    · exact (hK a (by omega) a1).2 q
  exact ⟨g.1.K (by omega), g.1.N (by omega), fun c k => g.1.2.2 c a k (by omega) hA⟩) (g.2 _ _ _ (by omega) (by omega) (by omega) (by omega) (by omega)) (fun k => g.2 _ _ _ (by omega) (by omega) (by omega) (by omega) (by omega)) (fun c a k a0 a1 => g'.2 _ _ _ (by omega) (by omega)) (g'.2 _ _ _ (by omega) (by omega)) (g'.2 _ _ _ (by omega) (by omega))
/-- globals, labels aside -/
def gGc (C S : Int) (O : Int → Int → Int → Int → Int) (s : jS) (e : Int → Int → Int) : Prop := jf s 39 (C + 4275) 20 = e 0 0 ∧ (∀ x, vsy S O x → jf s 1000 (C + 4275 + 14) x = if sy O x 3 = 0 then -1 else e 1 x) ∧
  ∀ g, 0 ≤ g → g < e 0 0 → (jf s 1000 (C + 4275 + 15) g = e 2 g / 100 ∧ jf s 1000 (C + 4275 + 16) g = e 2 g % 100) ∧ jf s 1000 (C + 4275 + 17) g = hC (e 3 g) ∧ (e 3 g = 1 → jf s 1000 (C + 4275 + 18) g = e 4 g / 100 ∧ jf s 1000 (C + 4275 + 19) g = e 4 g % 100) ∧ (e 3 g = 3 → jf s 1000 (C + 4275 + 19) g = e 7 g - 1) ∧ (e 3 g = 2 → jf s 1000 (C + 4275 + 20) g = e 5 g ∧ jf s 1000 (C + 4275 + 21) g = e 6 g)
theorem gFc.toG (h : gFc C S O s e) : gGc C S O s e := ⟨h.1, fun x hx => (h.2.1 x hx).1, fun g g0 g1 => by
  obtain ⟨a1, a2, a3, a4, a5, -⟩ := h.2.2 g g0 g1
  exact ⟨a1, a2, a3, a4, a5⟩⟩
theorem gGc.cg (h : gGc C S O s e) (F : ∀ a k, C + 4275 + 14 ≤ a → a ≤ C + 4275 + 21 → jf u 1000 a k = jf s 1000 a k) (F1 : jf u 39 (C + 4275) 20 = jf s 39 (C + 4275) 20) : gGc C S O u e := by
  obtain ⟨h1, h2, h3⟩ := h
  refine ⟨by rw [F1]; exact h1, fun x hx => by rw [F _ _ (by omega) (by omega)]; exact h2 x hx, fun g g0 g1 => ?_⟩
  rw [F _ _ (by omega) (by omega), F _ _ (by omega) (by omega), F _ _ (by omega) (by omega), F _ _ (by omega) (by omega), F _ _ (by omega) (by omega), F _ _ (by omega) (by omega), F _ _ (by omega) (by omega)]
  exact h3 g g0 g1
theorem gGc.bw (h : gGc C S O s e) (g : cBW C s u P Q) : gGc C S O u e := h.cg (fun a k a0 a1 => g.2 _ _ _ (by omega) (by omega) (by omega) (by omega) (by omega)) (g.2 _ _ _ (by omega) (by omega) (by omega) (by omega) (by omega))
theorem gFt.cg (h : gFt H S O t e) (F : ∀ a k, H + 189 ≤ a → a ≤ H + 196 → ¬ a = H + 195 → jf u 1000 a k = jf t 1000 a k) (F1 : jf u 41 H 81 = jf t 41 H 81) : gFt H S O u e := by
  obtain ⟨h1, h2, h3⟩ := h
  refine ⟨by rw [F1]; exact h1, fun x hx => by rw [F _ _ (by omega) (by omega) (by omega)]; exact h2 x hx, fun g g0 g1 => ?_⟩
  rw [F (H + 190) _ (by omega) (by omega) (by omega), F (H + 191) _ (by omega) (by omega) (by omega), F (H + 192) _ (by omega) (by omega) (by omega), F (H + 193) _ (by omega) (by omega) (by omega), F (H + 194) _ (by omega) (by omega) (by omega), F (H + 196) _ (by omega) (by omega) (by omega)]
  exact h3 g g0 g1
theorem gFt.bw (h : gFt H S O t e) (g : tBW H t u) : gFt H S O u e := h.cg (fun a k a0 a1 a2 => g.2 _ _ _ (by omega) (by omega)) (g.2 _ _ _ (by omega) (by omega))
/-- a fault, by states -/
def lkX (C H : Int) (s t : jS) (P Q : Int) (r : jS × Bool × Int) (w : jS) : Prop := (r.2.1 = true ∧ 0 ≤ r.2.2 ∧ jK r.1 r.2.2 = 2069) ∧ kFt r.1 w C H ∧ cLF C s r.1 P Q ∧ tLF H t w
theorem lkX.pre {r : jS × Bool × Int} {q : jS} (h : lkX C H u w P' Q' r q) (g : cLF C s u P Q) (g' : tLF H t w) : lkX C H s t (P + P') (Q + Q') r q := ⟨h.1, h.2.1, g.trans h.2.2.1, g'.trans h.2.2.2⟩
theorem lkX.mono {r : jS × Bool × Int} {q : jS} (h : lkX C H s t P Q r q) (h1 : P ≤ P') (h2 : Q ≤ Q') : lkX C H s t P' Q' r q := ⟨h.1, h.2.1, h.2.2.1.mono h1 h2, h.2.2.2⟩
theorem lkX.mk (hn : 0 ≤ jn s) (hb : jBd s 1 6) (hC : C + 4316 ≤ jn s) (ht : jf t 41 H 99 = 0) (hf : ¬ f = 0) (a b : Int) : ∃ u x w, m_X35_wrong s (C + 4275) f a b = some (u, x) ∧ m_X37_refuse t H f a b = some (w, 0) ∧ 0 ≤ x ∧ lkX C H s t 1 6 (u, true, x) w := by
  obtain ⟨u, x, e1, ⟨x0, x1⟩, L, ⟨w1, w2, w3⟩, -⟩ := c_wrongL hn hb hC f a b
  obtain ⟨u', e2, ⟨v1, v2, v3⟩, m, F⟩ := t_refuse ht f a b
  exact ⟨u, x, u', e1, e2, x0, ⟨rfl, x0, x1⟩, ⟨by rw [w1, v1], by rw [w1]; exact hf, by rw [w2, v2], by rw [w3, v3]⟩, L, tLF.of m F⟩
/-- powers of two -/
def lgF (n : Int) : Int := if n < 2 then 0 else if n < 4 then 1 else if n < 8 then 2 else if n < 16 then 3 else if n < 32 then 4 else if n < 64 then 5 else 6
theorem ushr_s (x0 : 0 ≤ x) (x1 : x ≤ 1000) (k0 : 0 ≤ k) (k1 : k ≤ 31) : I_ushr x k = x / 2 ^ k.toNat := by
  rw [i_ushr_p k0 k1]
  have h1 : (0 : Int) < 2 ^ k.toNat := Int.pow_pos (by decide)
  have e1 : x % 4294967296 = x := Int.emod_eq_of_lt x0 (by omega)
  have e2 := Int.ediv_nonneg x0 (show (0 : Int) ≤ 2 ^ k.toNat by omega)
  have e3 := Int.ediv_le_self (2 ^ k.toNat) x0
  rw [e1, W32_in (by omega) (by omega)]
theorem c_power (n0 : 1 ≤ n) (n1 : n ≤ 64) : m_X35_powerOf s n = some (lgF n) := by
  have u1 : ∀ x, 0 ≤ x → x ≤ 64 → I_ushr x 1 = x / 2 := fun x a b => ushr_s a (by omega) (by decide) (by decide)
  have u2 : ∀ x, 0 ≤ x → x ≤ 64 → I_ushr x 2 = x / 4 := fun x a b => ushr_s a (by omega) (by decide) (by decide)
  have u4 : ∀ x, 0 ≤ x → x ≤ 64 → I_ushr x 4 = x / 16 := fun x a b => ushr_s a (by omega) (by decide) (by decide)
  rw [e_X35_powerOf]
  refine congrArg some ?_
  unfold v_J16_numberOfLeadingZeros lgF
  rw [if_pos (show 0 < n by omega), if_pos (show n < 65536 by omega), if_pos (show n < 256 by omega)]
  by_cases c16 : n < 16
  · rw [if_pos c16]
    by_cases c4 : n < 4
    · rw [if_pos c4, u1 n (by omega) (by omega), W32_in (z := 31 - n / 2) (by omega) (by omega), W32_in (by omega) (by omega)]
      by_cases c2 : n < 2
      · rw [if_pos c2]; omega
      · rw [if_neg c2, if_pos c4]; omega
    · rw [if_neg c4, u2 n (by omega) (by omega), u1 _ (by omega) (by omega), W32_in (z := 31 + -2) (by omega) (by omega), W32_in (z := 31 + -2 - n / 4 / 2) (by omega) (by omega), W32_in (by omega) (by omega), if_neg (show ¬ n < 2 by omega), if_neg c4]
      by_cases c8 : n < 8
      · rw [if_pos c8]; omega
      · rw [if_neg c8, if_pos c16]; omega
  · rw [if_neg c16, u4 n (by omega) (by omega), if_neg (show ¬ n < 2 by omega), if_neg (show ¬ n < 4 by omega), if_neg (show ¬ n < 8 by omega), if_neg c16]
    by_cases c64 : n / 16 < 4
    · rw [if_pos c64, u1 _ (by omega) (by omega), W32_in (z := 31 + -4) (by omega) (by omega), W32_in (z := 31 + -4 - n / 16 / 2) (by omega) (by omega), W32_in (by omega) (by omega)]
      by_cases c32 : n < 32
      · rw [if_pos c32]; omega
      · rw [if_neg c32, if_pos (show n < 64 by omega)]; omega
    · rw [if_neg c64, u2 _ (by omega) (by omega), u1 _ (by omega) (by omega), W32_in (z := 31 + -4) (by omega) (by omega), W32_in (z := 31 + -4 + -2) (by omega) (by omega), W32_in (z := 31 + -4 + -2 - n / 16 / 4 / 2) (by omega) (by omega), W32_in (by omega) (by omega), if_neg (show ¬ n < 32 by omega), if_neg (show ¬ n < 64 by omega)]
      omega
theorem t_logOf (h : pPw n) : m_X37_logOf t n = some (lgF n) := by
  have e : n = 2 ^ (lgF n).toNat ∧ 0 ≤ lgF n ∧ lgF n ≤ 6 := by
    unfold pPw at h
    rcases h with z | z | z | z | z | z | z <;> subst z <;> decide
  rw [em_X37_logOf]; unfold dm_X37_logOf
  rw [eu_X37_logOf_2]; unfold du_X37_logOf_2
  have mono : ∀ k, 0 ≤ k → k < lgF n → (2 : Int) ^ k.toNat < n := fun k k0 k1 => by
    have : k = 0 ∨ k = 1 ∨ k = 2 ∨ k = 3 ∨ k = 4 ∨ k = 5 := by omega
    have h' := h
    unfold pPw at h'
    rcases h' with z | z | z | z | z | z | z <;> subst z <;> rcases this with y | y | y | y | y | y <;> subst y <;> revert k1 <;> decide
  refine jforR (C := jc2 b_X37_logOf_2) (fun k => [n, k]) 0 (lgF n) e.2.1 (fun k k0 k1 => ?_) ?_
  · show b_X37_logOf_2 t n k = _
    unfold b_X37_logOf_2
    rw [one_shl k0 (by omega), if_pos (mono k k0 k1), W32_in (by omega) (by omega)]
  · show b_X37_logOf_2 t n (lgF n) = _
    unfold b_X37_logOf_2
    rw [one_shl e.2.1 (by omega), if_neg (by have := e.1; omega)]
end jBuild
