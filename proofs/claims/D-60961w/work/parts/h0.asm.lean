/-! the assembler: what ties both sides *-/
section jAsm
variable {s t u v w : jS} {A H b lo N k i j o c a n p X Y X' Y' : Int} {f g f' g' : Int → Int → Int → Int} {NL : List (List Int)} {I : pI} {OL : List pvO} {SL : List pvS} {z : pvS} {B : Int → Prop}
/-- a symbol -/
def aS1 (f g : Int → Int → Int → Int) (A H N i : Int) : Prop := g 1000 (H + 143) i = (if 0 ≤ f 38 (A + 1 + 26 + 1 * i) 0 then f 38 (A + 1 + 26 + 1 * i) 0 else f 38 (A + 1 + 26 + 1 * i) 0 - 1) ∧ (-100 ≤ f 38 (A + 1 + 26 + 1 * i) 0 ∧ f 38 (A + 1 + 26 + 1 * i) 0 < N) ∧ g 1000 (H + 144) i = (if f 38 (A + 1 + 26 + 1 * i) 1 = -1 then -2 else f 38 (A + 1 + 26 + 1 * i) 1) ∧ (-1 ≤ f 38 (A + 1 + 26 + 1 * i) 1 ∧ f 38 (A + 1 + 26 + 1 * i) 1 ≤ 5) ∧ g 1000 (H + 145) i = f 38 (A + 1 + 26 + 1 * i) 2 ∧ jin (f 38 (A + 1 + 26 + 1 * i) 2) ∧ g 1000 (H + 146) i = f 38 (A + 1 + 26 + 1 * i) 3 ∧ (0 ≤ f 38 (A + 1 + 26 + 1 * i) 3 ∧ f 38 (A + 1 + 26 + 1 * i) 3 ≤ 4096 ∧ (f 38 (A + 1 + 26 + 1 * i) 1 = -1 → f 38 (A + 1 + 26 + 1 * i) 3 = 0)) ∧ (f 38 (A + 1 + 26 + 1 * i) 4 = 0 ∨ f 38 (A + 1 + 26 + 1 * i) 4 = 1) ∧ (f 38 (A + 1 + 26 + 1 * i) 5 = 0 ∨ f 38 (A + 1 + 26 + 1 * i) 5 = 1) ∧ g 1000 (H + 147) i = (if f 38 (A + 1 + 26 + 1 * i) 5 = 1 then 2 else if f 38 (A + 1 + 26 + 1 * i) 4 = 1 then 1 else 0)
def aSym (f g : Int → Int → Int → Int) (A H N : Int) : Prop := f 37 A 25 = g 41 H 12 ∧ (0 ≤ g 41 H 12 ∧ g 41 H 12 ≤ 100) ∧ f 37 A 26 = g 41 H 19 ∧ (0 ≤ g 41 H 19 ∧ g 41 H 19 ≤ g 41 H 12) ∧ ∀ i, 0 ≤ i → i < g 41 H 12 → aS1 f g A H N i
theorem aS1.cg (h : aS1 f g A H N i) (hf : ∀ k, f' 38 (A + 1 + 26 + 1 * i) k = f 38 (A + 1 + 26 + 1 * i) k) (hg : ∀ a, H + 143 ≤ a → a ≤ H + 147 → g' 1000 a i = g 1000 a i) : aS1 f' g' A H N i := by
  unfold aS1 at *
  rw [hf, hf, hf, hf, hf, hf, hg _ (by omega) (by omega), hg _ (by omega) (by omega), hg _ (by omega) (by omega), hg _ (by omega) (by omega), hg _ (by omega) (by omega)]
  exact h
theorem aSym.cg (h : aSym f g A H N) (hf : ∀ c a k, (c = 37 ∧ a = A ∧ (k = 25 ∨ k = 26)) ∨ (c = 38 ∧ A + 27 ≤ a ∧ a ≤ A + 126) → f' c a k = f c a k) (hg : ∀ c a k, (c = 41 ∧ a = H ∧ (k = 12 ∨ k = 19)) ∨ (c = 1000 ∧ H + 143 ≤ a ∧ a ≤ H + 147) → g' c a k = g c a k) : aSym f' g' A H N := by
  obtain ⟨h1, h2, h3, h4, h5⟩ := h
  have e12 := hg 41 H 12 (by omega)
  have e19 := hg 41 H 19 (by omega)
  refine ⟨by rw [hf _ _ _ (by omega), e12]; exact h1, by rw [e12]; exact h2, by rw [hf _ _ _ (by omega), e19]; exact h3, by rw [e19, e12]; exact h4, fun i i0 i1 => ?_⟩
  rw [e12] at i1
  exact (h5 i i0 i1).cg (fun k => hf _ _ _ (by omega)) (fun a a0 a1 => hg _ _ _ (by omega))
/-- names' symbols, labels with digits -/
def aTab (f g : Int → Int → Int → Int) (A H N : Int) : Prop := (∀ k, 0 ≤ k → k < N → f 1000 (A + 2) k = g 1000 (H + 148) k ∧ -1 ≤ g 1000 (H + 148) k ∧ g 1000 (H + 148) k < g 41 H 12) ∧ ∀ d, 0 ≤ d → d < 10 → (f 1000 (A + 15) d = g 1000 (H + 149) d ∧ -1 ≤ g 1000 (H + 149) d ∧ g 1000 (H + 149) d < g 41 H 12) ∧ (f 1000 (A + 16) d = g 1000 (H + 150) d ∧ -1 ≤ g 1000 (H + 150) d ∧ g 1000 (H + 150) d < g 41 H 12) ∧ (¬ g 1000 (H + 150) d = -1 → f 1000 (A + 17) d = g 1000 (H + 151) d ∧ 0 ≤ g 1000 (H + 151) d)
theorem aTab.cg (h : aTab f g A H N) (hf : ∀ c a k, c = 1000 ∧ (a = A + 2 ∨ A + 15 ≤ a ∧ a ≤ A + 17) → f' c a k = f c a k) (hg : ∀ c a k, c = 1000 ∧ H + 148 ≤ a ∧ a ≤ H + 151 → g' c a k = g c a k) (hn : g 41 H 12 ≤ g' 41 H 12) : aTab f' g' A H N := by
  refine ⟨fun k k0 k1 => ?_, fun d d0 d1 => ?_⟩
  · have := h.1 k k0 k1
    rw [hf _ _ _ (by omega), hg 1000 (H + 148) k (by omega)]
    exact ⟨this.1, this.2.1, by omega⟩
  · obtain ⟨h1, h2, h3⟩ := h.2 d d0 d1
    rw [hf 1000 (A + 15) d (by omega), hg 1000 (H + 149) d (by omega), hf 1000 (A + 16) d (by omega), hg 1000 (H + 150) d (by omega), hf 1000 (A + 17) d (by omega), hg 1000 (H + 151) d (by omega)]
    exact ⟨⟨h1.1, h1.2.1, by omega⟩, ⟨h2.1, h2.2.1, by omega⟩, h3⟩
/-- hidden symbols that come, names' symbols -/
def aInv (g : Int → Int → Int → Int) (H N : Int) : Prop := (∀ k, 0 ≤ k → k < N → 0 ≤ g 1000 (H + 148) k → g 1000 (H + 143) (g 1000 (H + 148) k) = k) ∧ (∀ d, 0 ≤ d → d < 10 → 0 ≤ g 1000 (H + 150) d → g 1000 (H + 143) (g 1000 (H + 150) d) < 0 ∧ g 1000 (H + 144) (g 1000 (H + 150) d) = -2) ∧ ∀ d e, 0 ≤ d → d < 10 → 0 ≤ e → e < 10 → 0 ≤ g 1000 (H + 150) d → g 1000 (H + 150) d = g 1000 (H + 150) e → d = e
theorem aInv.cg (h : aInv g H N) (hg : ∀ a k, H + 143 ≤ a ∧ a ≤ H + 144 ∨ a = H + 148 ∨ a = H + 150 → g' 1000 a k = g 1000 a k) : aInv g' H N := by
  refine ⟨fun k k0 k1 => ?_, fun d d0 d1 => ?_, fun d e d0 d1 e0 e1 => ?_⟩
  · rw [hg (H + 148) k (by omega), hg (H + 143) _ (by omega)]; exact h.1 k k0 k1
  · rw [hg (H + 150) d (by omega), hg (H + 143) _ (by omega), hg (H + 144) _ (by omega)]; exact h.2.1 d d0 d1
  · rw [hg (H + 150) d (by omega), hg (H + 150) e (by omega)]; exact h.2.2 d e d0 d1 e0 e1
def szM (k : Int) : Int := if k = 3 then 4096 else 2048
/-- bytes, sizes, alignments -/
def aByt (f g : Int → Int → Int → Int) (A H : Int) : Prop := (f 37 A 30 = g 41 H 34 ∧ 0 ≤ g 41 H 34 ∧ g 41 H 34 ≤ 3) ∧ (∀ k, 0 ≤ k → k < 4 → f 1000 (A + 7) k = g 1000 (H + 153) k ∧ (0 ≤ g 1000 (H + 153) k ∧ g 1000 (H + 153) k ≤ szM k) ∧ (0 ≤ f 1000 (A + 8) k ∧ f 1000 (A + 8) k ≤ 6) ∧ g 1000 (H + 154) k = 2 ^ (f 1000 (A + 8) k).toNat) ∧ ∀ s k, 0 ≤ s → s < 3 → 0 ≤ k → k < g 1000 (H + 153) s → f 1001 (A + 3 + 1 + 1 * s) k = sb (g 1000 (H + 152) (2048 * s + k)) ∧ 0 ≤ g 1000 (H + 152) (2048 * s + k) ∧ g 1000 (H + 152) (2048 * s + k) < 256
theorem aByt.cg (h : aByt f g A H) (hf : ∀ c a k, (c = 37 ∧ a = A ∧ k = 30) ∨ (c = 1000 ∧ (a = A + 7 ∨ a = A + 8)) ∨ (c = 1001 ∧ A + 4 ≤ a ∧ a ≤ A + 6) → f' c a k = f c a k) (hg : ∀ c a k, (c = 41 ∧ a = H ∧ k = 34) ∨ (c = 1000 ∧ H + 152 ≤ a ∧ a ≤ H + 154) → g' c a k = g c a k) : aByt f' g' A H := by
  obtain ⟨h1, h2, h3⟩ := h
  refine ⟨by rw [hf _ _ _ (by omega), hg _ _ _ (by omega)]; exact h1, fun k k0 k1 => ?_, fun s k s0 s1 k0 k1 => ?_⟩
  · rw [hf _ _ _ (by omega), hg _ _ _ (by omega), hf _ _ _ (by omega), hg _ _ _ (by omega)]; exact h2 k k0 k1
  · rw [hg _ _ _ (by omega)] at k1
    rw [hf _ _ _ (by omega), hg _ _ _ (by omega)]; exact h3 s k s0 s1 k0 k1
/-- relocations -/
def aMov (f g : Int → Int → Int → Int) (A H : Int) : Prop := (f 37 A 28 = g 41 H 28 ∧ 0 ≤ g 41 H 28 ∧ g 41 H 28 ≤ 300) ∧ ∀ i, 0 ≤ i → i < g 41 H 28 → f 1000 (A + 10) i = g 1000 (H + 156) i ∧ f 1000 (A + 11) i = g 1000 (H + 157) i ∧ f 1000 (A + 12) i = g 1000 (H + 158) i ∧ f 1000 (A + 13) i = g 1000 (H + 159) i ∧ f 1000 (A + 14) i = g 1000 (H + 160) i ∧ (0 ≤ g 1000 (H + 156) i ∧ g 1000 (H + 156) i ≤ 3) ∧ (0 ≤ g 1000 (H + 157) i ∧ g 1000 (H + 157) i ≤ 4096) ∧ (0 ≤ g 1000 (H + 158) i ∧ g 1000 (H + 158) i ≤ 60) ∧ (-1 ≤ g 1000 (H + 159) i ∧ g 1000 (H + 159) i < 100) ∧ jin (g 1000 (H + 160) i)
theorem aMov.cg (h : aMov f g A H) (hf : ∀ c a k, (c = 37 ∧ a = A ∧ k = 28) ∨ (c = 1000 ∧ A + 10 ≤ a ∧ a ≤ A + 14) → f' c a k = f c a k) (hg : ∀ c a k, (c = 41 ∧ a = H ∧ k = 28) ∨ (c = 1000 ∧ H + 156 ≤ a ∧ a ≤ H + 160) → g' c a k = g c a k) : aMov f' g' A H := by
  obtain ⟨h1, h2⟩ := h
  refine ⟨by rw [hf _ _ _ (by omega), hg _ _ _ (by omega)]; exact h1, fun k k0 k1 => ?_⟩
  rw [hg _ _ _ (by omega)] at k1
  rw [hf _ _ _ (by omega), hf _ _ _ (by omega), hf _ _ _ (by omega), hf _ _ _ (by omega), hf _ _ _ (by omega), hg _ _ _ (by omega), hg _ _ _ (by omega), hg _ _ _ (by omega), hg _ _ _ (by omega), hg _ _ _ (by omega)]
  exact h2 k k0 k1
/-- starts of instructions -/
def aSta (f g : Int → Int → Int → Int) (A H : Int) : Prop := (f 37 A 27 = g 41 H 26 ∧ 0 ≤ g 41 H 26) ∧ ∀ i, 0 ≤ i → i < g 41 H 26 → f 1003 (A + 9) i = g 1000 (H + 155) i ∧ 0 ≤ g 1000 (H + 155) i ∧ g 1000 (H + 155) i ≤ 2048
theorem aSta.cg (h : aSta f g A H) (hf : ∀ c a k, (c = 37 ∧ a = A ∧ k = 27) ∨ (c = 1003 ∧ a = A + 9) → f' c a k = f c a k) (hg : ∀ c a k, (c = 41 ∧ a = H ∧ k = 26) ∨ (c = 1000 ∧ a = H + 155) → g' c a k = g c a k) : aSta f' g' A H := by
  obtain ⟨h1, h2⟩ := h
  refine ⟨by rw [hf _ _ _ (by omega), hg _ _ _ (by omega)]; exact h1, fun k k0 k1 => ?_⟩
  rw [hg _ _ _ (by omega)] at k1
  rw [hf _ _ _ (by omega), hg _ _ _ (by omega)]
  exact h2 k k0 k1
/-- options -/
def aKep (f g : Int → Int → Int → Int) (A H : Int) : Prop := (f 37 A 29 = g 41 H 37 ∧ 0 ≤ g 41 H 37 ∧ g 41 H 37 ≤ 8) ∧ (∀ i, 0 ≤ i → i < g 41 H 37 → (f 1002 (A + 18) i = g 1002 (H + 161) i ∧ (g 1002 (H + 161) i = 0 ∨ g 1002 (H + 161) i = 1)) ∧ (f 1002 (A + 19) i = g 1002 (H + 162) i ∧ (g 1002 (H + 162) i = 0 ∨ g 1002 (H + 162) i = 1))) ∧ (f 37 A 39 = g 41 H 35 ∧ (g 41 H 35 = 0 ∨ g 41 H 35 = 1)) ∧ (f 37 A 40 = g 41 H 36 ∧ (g 41 H 36 = 0 ∨ g 41 H 36 = 1))
theorem aKep.cg (h : aKep f g A H) (hf : ∀ c a k, (c = 37 ∧ a = A ∧ (k = 29 ∨ k = 39 ∨ k = 40)) ∨ (c = 1002 ∧ (a = A + 18 ∨ a = A + 19)) → f' c a k = f c a k) (hg : ∀ c a k, (c = 41 ∧ a = H ∧ (35 ≤ k ∧ k ≤ 37)) ∨ (c = 1002 ∧ (a = H + 161 ∨ a = H + 162)) → g' c a k = g c a k) : aKep f' g' A H := by
  obtain ⟨h1, h2, h3, h4⟩ := h
  refine ⟨by rw [hf _ _ _ (by omega), hg _ _ _ (by omega)]; exact h1, fun k k0 k1 => ?_, by rw [hf _ _ _ (by omega), hg _ _ _ (by omega)]; exact h3, by rw [hf _ _ _ (by omega), hg _ _ _ (by omega)]; exact h4⟩
  rw [hg _ _ _ (by omega)] at k1
  rw [hf _ _ _ (by omega), hf _ _ _ (by omega), hg _ _ _ (by omega), hg _ _ _ (by omega)]
  exact h2 k k0 k1
/-- the statement at hand -/
def aHer (f g : Int → Int → Int → Int) (A H k : Int) (z : pvS) : Prop := (f 37 A 33 = k ∧ g 41 H 44 = z.2.2.2.2.1) ∧ (f 37 A 31 = g 41 H 48 ∧ -1 ≤ g 41 H 48 ∧ g 41 H 48 < g 41 H 12) ∧ f 37 A 32 = g 41 H 47 ∧ 0 ≤ g 41 H 47 ∧ g 41 H 47 ≤ 4096
theorem aHer.cg (h : aHer f g A H k z) (hf : ∀ c a k, (c = 37 ∧ a = A ∧ (31 ≤ k ∧ k ≤ 33)) → f' c a k = f c a k) (hg : ∀ c a k, (c = 41 ∧ a = H ∧ (k = 44 ∨ k = 47 ∨ k = 48)) → g' c a k = g c a k) (hn : g 41 H 12 ≤ g' 41 H 12) : aHer f' g' A H k z := by
  obtain ⟨h1, h2, h3⟩ := h
  exact ⟨by rw [hf _ _ _ (by omega), hg _ _ _ (by omega)]; exact h1, by rw [hf 37 A 31 (by omega), hg 41 H 48 (by omega)]; exact ⟨h2.1, h2.2.1, by omega⟩, by rw [hf _ _ _ (by omega), hg _ _ _ (by omega)]; exact h3⟩
/-- its operands -/
def aArg (f g : Int → Int → Int → Int) (A H : Int) (z : pvS) : Prop := f 37 A 34 = z.2.2.1 ∧ g 41 H 45 = z.2.2.1 ∧ f 37 A 35 = z.2.2.2.1 ∧ g 41 H 46 = z.2.2.2.1
/-- all of it that is kept over statements -/
def aAll (f g : Int → Int → Int → Int) (A H N k : Int) (z : pvS) : Prop := aSym f g A H N ∧ aTab f g A H N ∧ aInv g H N ∧ aByt f g A H ∧ aMov f g A H ∧ aSta f g A H ∧ aKep f g A H ∧ aHer f g A H k z ∧ g 41 H 42 = 0
/-- kinds of the assembler's cells -/
def aKd (s : jS) (A : Int) : Prop := ∀ z, A ≤ z → z ≤ A + 126 → jK s z = 37 ∨ jK s z = 38 ∨ (1000 ≤ jK s z ∧ jK s z < 2000)
/-- the words' objects lie below -/
def pWl (s : jS) (W hi : Int) : Prop := 0 ≤ W ∧ W + 27 ≤ hi ∧ hi ≤ jn s ∧ (jK s (W + 24) = 1000 ∧ jK s (W + 25) = 1000) ∧ ∀ k : Nat, k < 75 → jf s 1008 (W + 23) k < hi ∧ jf s 11 (jf s 1008 (W + 23) k) 0 = jc s (73 + k : Nat) ∧ jf s 11 (jf s 1008 (W + 23) k) 5 < hi ∧ (48 ≤ k → jf s 11 (jf s 1008 (W + 23) k) 6 < hi) ∧ ∀ e : Nat, e < 4 → ¬ (cFd k e).1 = 0 → jf s 1007 (jf s 11 (jf s 1008 (W + 23) k) 5) e < hi ∧ ((cFd k e).1 = 6 ∨ (cFd k e).1 = 12 ∨ (cFd k e).1 = 14 → jf s (cFd k e).1 (jf s 1007 (jf s 11 (jf s 1008 (W + 23) k) 5) e) 0 < hi)
theorem pFA.gl {q : Int} {d : Nat × Int × List Int} {hi : Int} {W : Int} (h : pFA s q d) (g : jGw s t X Y B) (hA : ∀ a, B a → hi ≤ a ∨ jK s a = 1000 ∧ (a = W + 24 ∨ a = W + 25)) (hp : d.1 = 6 ∨ d.1 = 12 ∨ d.1 = 14 → ¬ jf s d.1 q 0 = W + 24 ∧ ¬ jf s d.1 q 0 = W + 25) (h0 : q < hi) (hb : d.1 = 6 ∨ d.1 = 12 ∨ d.1 = 14 → jf s d.1 q 0 < hi) (hn : hi ≤ jn s) : pFA t q d ∧ (∀ c k, jf t c q k = jf s c q k) := by
  obtain ⟨f0, f1, f2, h⟩ := h
  have hn' := g.n
  have hd : ¬ d.1 = 1000 := by
    rcases h with h | h | h
    · have := h.1; omega
    · have := h.1; omega
    · have := h.1; omega
  have e : ∀ c k, jf t c q k = jf s c q k := fun c k => g.2.2 _ _ _ f1 fun z => by have := hA _ z; omega
  refine ⟨⟨f0, by omega, by rw [g.K f1]; exact f2, ?_⟩, e⟩
  rcases h with h | h | ⟨c, h1, h2, h3, h4, h5⟩
  · refine .inl ⟨h.1, ?_, ?_⟩
    · rw [e]; exact h.2.1
    · rw [e]; exact h.2.2
  · refine .inr (.inl ⟨h.1, ?_⟩)
    rw [e]; exact h.2
  · have hb' := hb c
    refine .inr (.inr ⟨c, by rw [e]; exact h1, by rw [e]; exact h2, by rw [e, g.K (by omega)]; exact h3, by rw [e, g.N (by omega)]; exact h4, fun i hi => ?_⟩)
    have hp' := hp c
    rw [e, g.2.2 _ _ _ (by omega) fun z => by have := hA _ z; omega]; exact h5 i hi
theorem pWd.gl {W hi : Int} (h : pWd s W) (n : pWl s W hi) (g : jGw s t X Y B) (hA : ∀ a, B a → hi ≤ a ∨ jK s a = 1000 ∧ (a = W + 24 ∨ a = W + 25)) : pWd t W ∧ pWl t W hi := by
  obtain ⟨h1, h2⟩ := h
  obtain ⟨n0, n1, n9, nk, n2⟩ := n
  have hn := g.n
  have F : ∀ c y k, y < hi → ¬ jK s y = 1000 ∨ ¬ (y = W + 24 ∨ y = W + 25) → jf t c y k = jf s c y k := fun c y k hy hy' => g.2.2 _ _ _ (by omega) fun z => by have := hA _ z; omega
  have e8 : ∀ k, jf t 1008 (W + 23) k = jf s 1008 (W + 23) k := fun k => F _ _ _ (by omega) (by omega)
  have key : ∀ k : Nat, k < 75 → pKA t (jf s 1008 (W + 23) k) k ∧ (∀ j, jf t 11 (jf s 1008 (W + 23) k) j = jf s 11 (jf s 1008 (W + 23) k) j) ∧ (∀ j, jf t 1007 (jf s 11 (jf s 1008 (W + 23) k) 5) j = jf s 1007 (jf s 11 (jf s 1008 (W + 23) k) 5) j) ∧ ∀ e : Nat, e < 4 → ¬ (cFd k e).1 = 0 → ∀ c j, jf t c (jf s 1007 (jf s 11 (jf s 1008 (W + 23) k) 5) e) j = jf s c (jf s 1007 (jf s 11 (jf s 1008 (W + 23) k) 5) e) j := by
    intro k hk
    obtain ⟨a1, a2, a3, a4, a5, a6, a7, a8, a9, a10⟩ := h1 k hk
    obtain ⟨b0, b1, b2, b3, b4⟩ := n2 k hk
    have e11 : ∀ j, jf t 11 (jf s 1008 (W + 23) k) j = jf s 11 (jf s 1008 (W + 23) k) j := fun j => F _ _ _ b0 (.inl (by have : jK s (jf s 1008 (W + 23) k) = 11 := a1.2.2.1; omega))
    have e7 : ∀ j, jf t 1007 (jf s 11 (jf s 1008 (W + 23) k) 5) j = jf s 1007 (jf s 11 (jf s 1008 (W + 23) k) 5) j := fun j => F _ _ _ b2 (.inl (by omega))
    have eF : ∀ e : Nat, e < 4 → ¬ (cFd k e).1 = 0 → pFA t (jf s 1007 (jf s 11 (jf s 1008 (W + 23) k) 5) e) (cFd k e) ∧ ∀ c j, jf t c (jf s 1007 (jf s 11 (jf s 1008 (W + 23) k) 5) e) j = jf s c (jf s 1007 (jf s 11 (jf s 1008 (W + 23) k) 5) e) j := fun e he z => ((a9 e he).2 z).gl g hA (fun q => h2 k hk e he q) (b4 e he z).1 (b4 e he z).2 n9
    refine ⟨?_, e11, e7, fun e he z => (eF e he z).2⟩
    unfold pKA
    simp only [e11]
    refine ⟨⟨a1.1, by have := a1.2.1; omega, by rw [g.K a1.2.1]; exact a1.2.2.1, fun q => absurd q (by decide)⟩, a2, a3, a4, a5, a6, by rw [g.K (by omega)]; exact a7, by rw [g.N (by omega)]; exact a8, fun e he => ?_, fun q => ?_⟩
    · rw [e7]
      exact ⟨(a9 e he).1, fun z => (eF e he z).1⟩
    · obtain ⟨c1, c2, c3⟩ := a10 q
      have b3 := b3 q
      have e13 : ∀ j, jf t 13 (jf s 11 (jf s 1008 (W + 23) k) 6) j = jf s 13 (jf s 11 (jf s 1008 (W + 23) k) 6) j := fun j => F _ _ _ b3 (.inl (by omega))
      simp only [e13]
      exact ⟨c1, by rw [g.K (by omega)]; exact c2, c3⟩
  refine ⟨⟨fun k hk => by rw [e8]; exact (key k hk).1, fun k hk e he c => ?_⟩, ⟨n0, n1, by omega, by rw [g.K (by omega), g.K (by omega)]; exact nk, fun k hk => ?_⟩⟩
  · obtain ⟨-, k1, k2, k3⟩ := key k hk
    rw [e8, k1, k2, k3 e he (by omega)]
    exact h2 k hk e he c
  · obtain ⟨-, k1, k2, k3⟩ := key k hk
    obtain ⟨b0, b1, b2, b3, b4⟩ := n2 k hk
    simp only [e8, k1, g.c]
    refine ⟨b0, b1, b2, b3, fun e he c => ?_⟩
    rw [k2, k3 e he c]
    exact b4 e he c
/-- the component's surroundings -/
def cCx (s : jS) (A b lo : Int) (NL : List (List Int)) (I : pI) (OL : List pvO) (SL : List pvS) : Prop := cBk s (A + (-3890)) b lo NL I OL SL ∧ (pWd s (A + (-4147)) ∧ pWl s (A + (-4147)) (A + (-3890))) ∧ pCon s ∧ (0 ≤ A + (-4148) ∧ A + 127 ≤ jn s ∧ A + 126 ≤ lo ∧ b + 5 < A ∧ A + (-3890) < b ∧ jK s (A + (-3890)) = 15) ∧ aKd s A ∧ bGd NL I OL SL
theorem cCx.keep (h : cCx s A b lo NL I OL SL) (k : jGw s u X Y fun z => A ≤ z ∧ z ≤ A + 126 ∨ z = A + (-4147) + 24 ∨ z = A + (-4147) + 25) : cCx u A b lo NL I OL SL := by
  obtain ⟨⟨h1, h2⟩, ⟨h3, h4⟩, h5, h6, h7, h8⟩ := h
  have nn := k.1.1
  have nk := h4.2.2.2.1
  obtain ⟨w1, w2⟩ := h3.gl h4 k fun z hz => by
    rcases hz with hz | hz | hz
    · left; omega
    · right; rw [hz]; exact ⟨nk.1, .inl rfl⟩
    · right; rw [hz]; exact ⟨nk.2, .inr rfl⟩
  have kd : ∀ z, (A ≤ z ∧ z ≤ A + 126 ∨ z = A + (-4147) + 24 ∨ z = A + (-4147) + 25) → jK s z = 37 ∨ jK s z = 38 ∨ (1000 ≤ jK s z ∧ jK s z < 2000) := fun z hz => by
    rcases hz with hz | hz | hz
    · exact h7 z hz.1 hz.2
    · rw [hz, nk.1]; omega
    · rw [hz, nk.2]; omega
  refine ⟨⟨by rw [k.2.2 _ _ _ (by omega) (by omega)]; exact h1, h2.keep k fun z hz => ⟨by omega, by have := kd z hz; omega, fun _ => by omega⟩⟩, ⟨w1, w2⟩, h5.keep k fun z hz => by have := kd z hz; omega, ⟨h6.1, by omega, h6.2.2.1, h6.2.2.2.1, h6.2.2.2.2.1, by rw [k.K (by omega)]; exact h6.2.2.2.2.2⟩, fun z z0 z1 => by rw [k.K (by omega)]; exact h7 z z0 z1, h8⟩
/-- the twin's -/
def tCx (t : jS) (H : Int) (NL : List (List Int)) (I : pI) (OL : List pvO) (SL : List pvS) : Prop := yBk t (H + 8) NL I OL SL ∧ pRows t (H + 4 + 1)
/-- what the twin's assembling writes -/
def tF (H : Int) (t u : jS) : Prop := jSm t u ∧ ∀ c a k, ¬ (c = 41 ∧ a = H ∧ 12 ≤ k ∧ k ≤ 61) → ¬ ((c = 1000 ∨ c = 1002) ∧ H + 143 ≤ a ∧ a ≤ H + 169) → ¬ (c = 42 ∧ a = H + 4 ∧ k = 0) → ¬ (c = 1000 ∧ a = H + 6) → jf u c a k = jf t c a k
theorem tF.rfl : tF H t t := ⟨jSm.rfl, fun _ _ _ _ _ _ _ => Eq.refl _⟩
theorem tF.trans (h : tF H t u) (k : tF H u w) : tF H t w := ⟨jSm.trans h.1 k.1, fun c a j z z1 z2 z3 => (k.2 c a j z z1 z2 z3).trans (h.2 c a j z z1 z2 z3)⟩
theorem tF.wr {v2 : jS} {x : Int} (h : tF H t u) (e : v2 = jp u c a k x) (hc : (c = 41 ∧ a = H ∧ 12 ≤ k ∧ k ≤ 61) ∨ ((c = 1000 ∨ c = 1002) ∧ H + 143 ≤ a ∧ a ≤ H + 169) ∨ (c = 42 ∧ a = H + 4 ∧ k = 0) ∨ (c = 1000 ∧ a = H + 6)) : tF H t v2 := by
  subst e
  exact ⟨h.1.jp, fun c' a' j z z1 z2 z3 => by rw [jf_neg (by omega)]; exact h.2 c' a' j z z1 z2 z3⟩
theorem tCx.keep (h : tCx t H NL I OL SL) (k : tF H t u) : tCx u H NL I OL SL := by
  obtain ⟨⟨h1, h2⟩, h3⟩ := h
  refine ⟨⟨by rw [k.2 _ _ _ (by omega) (by omega) (by omega) (by omega)]; exact h1, h2.cg fun a j ha j0 j1 => k.2 _ _ _ (by omega) (by omega) (by omega) (by omega)⟩, fun i i0 i1 => by rw [k.2 _ _ _ (by omega) (by omega) (by omega) (by omega)]; exact h3 i i0 i1⟩
/-- both sides at a statement -/
def AR (s t : jS) (A H b lo : Int) (NL : List (List Int)) (I : pI) (OL : List pvO) (SL : List pvS) (k : Int) (z : pvS) : Prop := cCx s A b lo NL I OL SL ∧ tCx t H NL I OL SL ∧ jBd s 4 40 ∧ aAll (jf s) (jf t) A H NL.length k z ∧ (0 ≤ k ∧ k < SL.length ∧ tS SL k = z)
/-- what the component's assembling writes -/
def cFa (A : Int) (s u : jS) (X Y : Int) : Prop := jGw s u X Y fun z => A ≤ z ∧ z ≤ A + 126 ∨ z = A + (-4147) + 24 ∨ z = A + (-4147) + 25
/-- a fault on both sides -/
def aBad (s t : jS) (A H : Int) (q : jS × Bool × Int) (r : jS) : Prop := ∃ f p, ¬ f = 0 ∧ q.2.1 = true ∧ (0 ≤ q.2.2 ∧ jK q.1 q.2.2 = 2054) ∧ (jf q.1 37 A 37 = f ∧ jf q.1 37 A 38 = p) ∧ (jf r 41 H 42 = f ∧ jf r 41 H 43 = p) ∧ cFa A s q.1 1 6 ∧ tF H t r
end jAsm
