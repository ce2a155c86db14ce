/-! the linker: labels are put, both sides *-/
set_option maxRecDepth 100000
section jLpu
variable {s t u w r s' t' s0 t0 q' : jS} {a b g k m n p v l x y0 c j X f i H B C P Q P' Q' S N M K K' : Int} {O : Int → Int → Int → Int → Int} {o : Int → Int → Int → Int} {d d' e z y : Int → Int → Int} {G : Int → Int}
theorem lzW.bw (h : lzW (C + 4275 + 1) s u) : cBW C s u 0 0 := ⟨jGw.sm h.1 fun c a k hA => h.2 c a k (by omega) (by omega) (by omega) (by omega) (by omega), fun c a k q1 q2 q3 q4 q5 => h.2 c a k (by omega) (by omega) (by omega) (by omega) (by omega)⟩
/-- where a symbol's label is put -/
def syT (S : Int) (O : Int → Int → Int → Int → Int) (d z : Int → Int → Int) (X k a : Int) : Prop := (0 ≤ sy O X 0 ∧ sy O X 0 ≤ 3) ∧ pcA d z (4 * nIn S (X / 100).toNat + sy O X 0) (sy O X 1) k ∧ a = if d 5 k = 0 then sy O X 1 - z 0 k else if sy O X 1 = z 0 k then 0 else 1
/-- where a key's label is put; G = the parts of shared globals -/
def lT (S : Int) (O : Int → Int → Int → Int → Int) (e d z : Int → Int → Int) (G : Int → Int) (K k a : Int) : Prop := if K < 600 then syT S O d z K k a else if e 3 (K - 600) = 2 then k = d 3 (G (K - 600)) ∧ a = 0 else e 3 (K - 600) = 1 ∧ syT S O d z (e 4 (K - 600)) k a
/-- all parts are there -/
def lpR (H S : Int) (O : Int → Int → Int → Int → Int) (t : jS) (d z e : Int → Int → Int) (G : Int → Int) : Prop := (∀ v j, 0 ≤ v → v < 6 → sIn S v → 0 ≤ j → j < 4 → ptR H S O t d z v j ∧ 4 * nIn S v.toNat + j < d 0 0) ∧ (∀ g, 0 ≤ g → g < e 0 0 → e 3 g = 2 → (0 ≤ G g ∧ G g < d 0 0) ∧ d 1 (G g) = 3 ∧ pCt d z (G g) (e 5 g)) ∧ ∀ i, 0 ≤ i → i < d 0 1 → pcI O d z i
theorem syT.one (h : syT S O d z X k a) (g : syT S O d z X m b) (hp : pCt d z (4 * nIn S (X / 100).toNat + sy O X 0) n) : k = m ∧ a = b := by
  obtain ⟨-, h2, h3⟩ := h
  obtain ⟨-, g2, g3⟩ := g
  have := pcA.one hp h2 g2
  subst this
  exact ⟨rfl, by rw [h3, g3]⟩
/-- it may be put there -/
theorem syT.ok (h : syT S O d z X k a) (hp : pCt d z (4 * nIn S (X / 100).toNat + sy O X 0) (O (X / 100) 1 (sy O X 0) 0)) (vl : vLy d) (hx : 4 * nIn S (X / 100).toNat + sy O X 0 < d 0 0) (hI : ∀ i, 0 ≤ i → i < d 0 1 → pcI O d z i) (hs : 0 ≤ sy O X 1 ∧ sy O X 1 ≤ O (X / 100) 1 (sy O X 0) 0) : (0 ≤ k ∧ k < d 0 1) ∧ 0 ≤ a ∧ a ≤ if d 5 k = 0 then d 6 k else 1 := by
  obtain ⟨h1, ⟨⟨h2, h3⟩, h4, h5⟩, h6⟩ := h
  have nx := (nIn_lo (S := S) (X / 100).toNat).1
  obtain ⟨-, -, ⟨d1, d2, d3⟩, -⟩ := vl.2.2.2.2.1 _ (by omega) hx
  have hk : 0 ≤ k ∧ k < d 0 1 := by omega
  refine ⟨hk, ?_⟩
  by_cases c : d 5 k = 0
  · rw [if_pos c] at h6 ⊢
    obtain ⟨-, q⟩ := hI k hk.1 hk.2
    have e6 : d 6 k = z 1 k := by
      rcases q with ⟨-, -, q⟩ | ⟨-, i, -, -, -, -, -, q, -⟩
      · exact q
      · rw [c] at q; unfold srT at q
        split at q
        · omega
        split at q
        · omega
        split at q <;> omega
    have up : sy O X 1 ≤ z 0 k + z 1 k := by
      by_cases cl : k + 1 < d 4 (4 * nIn S (X / 100).toNat + sy O X 0)
      · have := h5 cl
        have := (hp.2.2.1 k h2 cl).2
        omega
      · have := hp.2.2.2
        rw [show d 4 (4 * nIn S (X / 100).toNat + sy O X 0) - 1 = k by omega] at this
        omega
    omega
  · rw [if_neg c] at h6 ⊢
    rw [h6]
    split <;> decide
end jLpu
