/-! the linker: frames; units are read on both sides -/
set_option maxRecDepth 100000
section jLread
variable {s t u w r q' : jS} {a b k m p v l n x y c j X f z i H C P Q P' Q' S : Int} {O : Int → Int → Int → Int → Int} {G : Int → Int → Int} {N : Int → Int} {R R' : Type} {QQ : R → R' → Prop}
/-- what linking may write: the component -/
def lkA (C : Int) (s : jS) (a : Int) : Prop := (∃ v, 0 ≤ v ∧ v < 6 ∧ (a = fAt C v ∨ fAt C v + 614 ≤ a ∧ a < fAt C v + 1227 ∨ fAt C v + 1239 ≤ a ∧ a < fAt C v + 1858)) ∨ (C + 4275 ≤ a ∧ a < C + 4316) ∨ (a = C + 25 ∨ a = C + 26) ∨ 70 ≤ jK s a ∧ jK s a ≤ 77
abbrev lkKp (C c a k : Int) : Prop := c = 1001 ∧ a = C + 4313 ∨ c = 1000 ∧ (a = C + 4314 ∨ a = C + 4315) ∨ c = 39 ∧ a = C + 4275 ∧ 45 ≤ k
/-- pools stay good -/
def plKp (C : Int) (s r : jS) : Prop := cPool s (C + 4275 + 1) → cPool r (C + 4275 + 1)
def cLF (C : Int) (s r : jS) (P Q : Int) : Prop := jGw s r P Q (lkA C s) ∧ (∀ c a k, lkKp C c a k → jf r c a k = jf s c a k) ∧ plKp C s r
theorem cLF.rfl : cLF C s s 0 0 := ⟨.rfl, fun _ _ _ _ => Eq.refl _, id⟩
theorem cLF.trans (h : cLF C s u P Q) (g : cLF C u w P' Q') : cLF C s w (P + P') (Q + Q') := ⟨h.1.trans g.1 fun a ha q => by
  rcases q with q | q
  · exact q
  · unfold lkA at q ⊢
    rw [h.1.K ha] at q; exact q, fun c a k q => (g.2.1 c a k q).trans (h.2.1 c a k q), fun q => g.2.2 (h.2.2 q)⟩
theorem cLF.mono (h : cLF C s u P Q) (h1 : P ≤ P') (h2 : Q ≤ Q') : cLF C s u P' Q' := ⟨h.1.mono h1 h2 fun _ _ q => q, h.2⟩
theorem cLF.jp (h : cLF C s u P Q) (ha : C + 4275 ≤ a ∧ a < C + 4316) (hk : ¬ lkKp C c a k ∧ ¬ (1015 ≤ c ∧ c ≤ 1021)) : cLF C s (jp u c a k v) P Q := ⟨h.1.jp (.inl (.inr (.inl ha))), fun c' a' k' q => by
  rw [jf_neg (by rintro ⟨rfl, rfl, rfl⟩; exact hk.1 q)]; exact h.2.1 c' a' k' q, fun q => (h.2.2 q).cg (Int.le_refl _) (fun _ _ => Eq.refl _) fun c' a' k' z => jf_neg (by rintro ⟨rfl, rfl, rfl⟩; omega)⟩
/-- the twin -/
def tLF (H : Int) (t q : jS) : Prop := jSm t q ∧ ∀ c a k, ¬ (c = 41 ∧ a = H ∧ (k = 4 ∨ k = 81 ∨ 99 ≤ k ∧ k ≤ 101 ∨ 104 ≤ k ∧ k ≤ 116) ∨ a = H + 4 ∨ a = H + 6) → ¬ (H + 25 ≤ a ∧ a < H + 59) → ¬ (H + 93 ≤ a ∧ a < H + 118) → ¬ (H + 170 ≤ a ∧ a ≤ H + 205) → jf q c a k = jf t c a k
theorem tLF.rfl : tLF H t t := ⟨jSm.rfl, fun _ _ _ _ _ _ _ => Eq.refl _⟩
theorem tLF.trans (h : tLF H t u) (g : tLF H u w) : tLF H t w := ⟨h.1.trans g.1, fun c a k q1 q2 q3 q4 => (g.2 c a k q1 q2 q3 q4).trans (h.2 c a k q1 q2 q3 q4)⟩
/-- the same fault -/
def kFt (s t : jS) (C H : Int) : Prop := jf s 39 (C + 4275) 6 = jf t 41 H 99 ∧ ¬ jf s 39 (C + 4275) 6 = 0 ∧ jf s 39 (C + 4275) 7 = jf t 41 H 100 ∧ jf s 39 (C + 4275) 8 = jf t 41 H 101
/-- linking ends by a fault -/
def lkF (C H : Int) (s t : jS) (P Q : Int) (r : jS × Bool × Int) (q : jS × Int) : Prop := (r.2.1 = true ∧ 0 ≤ r.2.2 ∧ jK r.1 r.2.2 = 2069) ∧ q.2 = 0 ∧ kFt r.1 q.1 C H ∧ cLF C s r.1 P Q ∧ tLF H t q.1
theorem lkF.pre {r : jS × Bool × Int} {q : jS × Int} (h : lkF C H u w P' Q' r q) (g : cLF C s u P Q) (g' : tLF H t w) : lkF C H s t (P + P') (Q + Q') r q := ⟨h.1, h.2.1, h.2.2.1, g.trans h.2.2.2.1, g'.trans h.2.2.2.2⟩
theorem lkF.mono {r : jS × Bool × Int} {q : jS × Int} (h : lkF C H s t P Q r q) (h1 : P ≤ P') (h2 : Q ≤ Q') : lkF C H s t P' Q' r q := ⟨h.1, h.2.1, h.2.2.1, h.2.2.2.1.mono h1 h2, h.2.2.2.2⟩
/-- something is wrong, both sides -/
theorem c_wrongL (hn : 0 ≤ jn s) (hb : jBd s 1 6) (hC : C + 4316 ≤ jn s) (f a b : Int) : ∃ u x, m_X35_wrong s (C + 4275) f a b = some (u, x) ∧ (0 ≤ x ∧ jK u x = 2069) ∧ cLF C s u 1 6 ∧ (jf u 39 (C + 4275) 6 = f ∧ jf u 39 (C + 4275) 7 = a ∧ jf u 39 (C + 4275) 8 = b) ∧ jEx s u := by
  rw [em_X35_wrong]; unfold dm_X35_wrong
  obtain ⟨y1, E_y1⟩ : ∃ y1, y1 = jp s 39 (C + 4275) 6 f := ⟨_, rfl⟩
  obtain ⟨f_y1, p_y1, -⟩ := jpF E_y1
  rw [jls_e, ← E_y1]
  obtain ⟨y2, E_y2⟩ : ∃ y2, y2 = jp y1 39 (C + 4275) 7 a := ⟨_, rfl⟩
  obtain ⟨f_y2, p_y2, -⟩ := jpF E_y2
  rw [jls_e, ← E_y2]
  obtain ⟨y3, E_y3⟩ : ∃ y3, y3 = jp y2 39 (C + 4275) 8 b := ⟨_, rfl⟩
  obtain ⟨f_y3, p_y3, -⟩ := jpF E_y3
  rw [jls_e, ← E_y3]
  have hm : jSm s y3 := ((jSm.rfl.wr E_y1).wr E_y2).wr E_y3
  have e3 : jn y3 = jn s := hm.2.2.1
  have hx : jnx y3 2069 = some (jmk y3 2069 0 (fun _ => 0) 6, jn y3) := by
    unfold jnx
    exact if_pos ⟨by omega, by rw [e3, hm.2.2.2.2.1]; exact hb.1, by rw [hm.2.2.2.1, hm.2.2.2.2.2.1]; exact hb.2⟩
  have L : cLF C s y3 0 0 := by rw [E_y3, E_y2, E_y1]; exact ((cLF.rfl.jp (by omega) (by omega)).jp (by omega) (by omega)).jp (by omega) (by omega)
  have ef : ∀ c a k, a < jn s → jf (jmk y3 2069 0 (fun _ => 0) 6) c a k = jf y3 c a k := fun c a k ha => (jmk_old (by omega)).2.2 c k
  rw [hx, Option.bind_some]
  refine ⟨_, _, rfl, ⟨by rw [e3]; exact hn, if_pos rfl⟩, ⟨L.1.mk.mono (by omega) (by omega) fun _ _ q => q, fun c a k q => ?_, fun q => (L.2.2 q).cg (by show jn y3 ≤ jn y3 + 1; omega) (fun a ha => (jmk_old ha).1) fun c a k z => ef _ _ _ (by omega)⟩, ⟨?_, ?_, ?_⟩, ?_⟩
  · rw [ef _ _ _ (by omega)]; exact L.2.1 c a k q
  · rw [ef _ _ _ (by omega), f_y3 _ _ _ (by omega), f_y2 _ _ _ (by omega)]; exact p_y1
  · rw [ef _ _ _ (by omega), f_y3 _ _ _ (by omega)]; exact p_y2
  · rw [ef _ _ _ (by omega)]; exact p_y3
  · rw [E_y3, E_y2, E_y1]; exact (((jEx.rfl.jp rfl).jp rfl).jp rfl).trans jEx_mk
theorem t_refuse (h : jf t 41 H 99 = 0) (f a b : Int) : ∃ u, m_X37_refuse t H f a b = some (u, 0) ∧ (jf u 41 H 99 = f ∧ jf u 41 H 100 = a ∧ jf u 41 H 101 = b) ∧ jSm t u ∧ ∀ c a k, ¬ (c = 41 ∧ a = H ∧ 99 ≤ k ∧ k ≤ 101) → jf u c a k = jf t c a k := by
  rw [em_X37_refuse]; unfold dm_X37_refuse
  rw [h, if_pos rfl]
  obtain ⟨y1, E_y1⟩ : ∃ y1, y1 = jp t 41 H 99 f := ⟨_, rfl⟩
  obtain ⟨f_y1, p_y1, -⟩ := jpF E_y1
  rw [jls_e, ← E_y1]
  obtain ⟨y2, E_y2⟩ : ∃ y2, y2 = jp y1 41 H 100 a := ⟨_, rfl⟩
  obtain ⟨f_y2, p_y2, -⟩ := jpF E_y2
  rw [jls_e, ← E_y2]
  obtain ⟨y3, E_y3⟩ : ∃ y3, y3 = jp y2 41 H 101 b := ⟨_, rfl⟩
  obtain ⟨f_y3, p_y3, -⟩ := jpF E_y3
  rw [jls_e, ← E_y3]
  rw [Wz_0]
  refine ⟨y3, rfl, ⟨?_, ?_, p_y3⟩, ((jSm.rfl.wr E_y1).wr E_y2).wr E_y3, fun c a k q => by rw [f_y3 _ _ _ (by omega), f_y2 _ _ _ (by omega), f_y1 _ _ _ (by omega)]⟩
  · rw [f_y3 _ _ _ (by omega), f_y2 _ _ _ (by omega)]; exact p_y1
  · rw [f_y3 _ _ _ (by omega)]; exact p_y2
theorem tLF.of {u : jS} (m : jSm t u) (h : ∀ c a k, ¬ (c = 41 ∧ a = H ∧ 99 ≤ k ∧ k ≤ 101) → jf u c a k = jf t c a k) : tLF H t u := ⟨m, fun c a k q1 _ _ _ => h c a k (by omega)⟩
/-- both say so and stop -/
theorem lkF.mk (hn : 0 ≤ jn s) (hb : jBd s 1 6) (hC : C + 4316 ≤ jn s) (ht : jf t 41 H 99 = 0) (hf : ¬ f = 0) (a b : Int) : jE2 ((m_X35_wrong s (C + 4275) f a b).bind fun q1 => jck0 q1.2 (some (q1.1, true, q1.2))) ((m_X37_refuse t H f a b).bind fun q1 => some (q1.1, Wz q1.2)) (lkF C H s t 1 6) := by
  obtain ⟨u, x, e1, ⟨x0, x1⟩, L, ⟨w1, w2, w3⟩, -⟩ := c_wrongL hn hb hC f a b
  obtain ⟨u', e2, ⟨v1, v2, v3⟩, m, F⟩ := t_refuse ht f a b
  rw [e1, e2, Option.bind_some, Option.bind_some]
  dsimp only
  rw [jck0_in x0, Wz_0]
  exact jE2_some.mpr ⟨⟨rfl, x0, x1⟩, rfl, ⟨by rw [w1, v1], by rw [w1]; exact hf, by rw [w2, v2], by rw [w3, v3]⟩, L, tLF.of m F⟩
/-- two loops in step, with ends within -/
theorem jforE {C : List Int → jS → Option ((jS × List Int) ⊕ R)} {D : List Int → jS → Option ((jS × List Int) ⊕ R')} (J : Int → jS → jS → Prop) (V V' : Int → List Int) (lo hi : Int) (hn : lo ≤ hi) (h : J lo s t)
    (h1 : ∀ k s t, lo ≤ k → k < hi → J k s t → (∃ s' t', C (V k) s = some (.inl (s', V (k + 1))) ∧ D (V' k) t = some (.inl (t', V' (k + 1))) ∧ J (k + 1) s' t') ∨ ∃ x y, C (V k) s = jinr x ∧ D (V' k) t = jinr y ∧ jE2 x y QQ)
    (h2 : ∀ s t, J hi s t → ∃ x y, C (V hi) s = jinr x ∧ D (V' hi) t = jinr y ∧ jE2 x y QQ) : jE2 (jlpW C (V lo) s) (jlpW D (V' lo) t) QQ := by
  have key : ∀ (m : Nat) (k : Int) (s t : jS), lo ≤ k → k ≤ hi → hi - k = m → J k s t → jE2 (jlpW C (V k) s) (jlpW D (V' k) t) QQ := by
    intro m
    induction m with
    | zero =>
      intro k s t h0 hk hm hJ
      have : k = hi := by omega
      subst this
      obtain ⟨x, y, e1, e2, hq⟩ := h2 s t hJ
      rw [jlpW_r e1, jlpW_r e2]; exact hq
    | succ m ih =>
      intro k s t h0 hk hm hJ
      rcases h1 k s t h0 (by omega) hJ with ⟨s', t', e1, e2, hj⟩ | ⟨x, y, e1, e2, hq⟩
      · rw [jlpW_l e1, jlpW_l e2]
        exact ih (k + 1) s' t' (by omega) (by omega) (by omega) hj
      · rw [jlpW_r e1, jlpW_r e2]; exact hq
  exact key (hi - lo).toNat lo s t (Int.le_refl _) hn (by omega) h
end jLread
