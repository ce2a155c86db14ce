/-! the linker: outputs' bytes, what both sides hold *-/
set_option maxRecDepth 100000
section jLoo
variable {s t u w : jS} {a b k m n n' o p q v l x c f g i j H C S K X : Int} {O : Int → Int → Int → Int → Int} {d e z y : Int → Int → Int} {G : Int → Int}
/-- an output's byte, both sides -/
abbrev cBy (s : jS) (C o p : Int) : Int := jf s 1001 (C + 4275 + 34 + o) p
abbrev tBy (t : jS) (H o p : Int) : Int := jf t 1000 (H + 205) (4096 * o + p)
/-- bytes of instructions that do nothing -/
def nopB (n k : Int) : Int := if k / 4 * 4 + 4 ≤ n then (if k % 4 = 0 then 19 else 0) else if k % 4 = 0 then 1 else 0
theorem nopB_lo : 0 ≤ nopB n k ∧ nopB n k < 256 := by
  unfold nopB
  split
  · split <;> decide
  · split <;> decide
/-- in a piece -/
abbrev inP (d : Int → Int → Int) (k p : Int) : Prop := plK d k ≤ ouB d 0 + p ∧ ouB d 0 + p < plK d k + szK d k (plK d k)
/-- relocations ahead of n are done -/
def outI (C H : Int) (O : Int → Int → Int → Int → Int) (s t : jS) (d z : Int → Int → Int) (n : Int) : Prop := (∀ o p, 0 ≤ o → o < 3 → 0 ≤ p → p < 4096 → ¬ (o = 0 ∧ ∃ k, (0 ≤ k ∧ k < d 0 1) ∧ ¬ d 5 k = 0 ∧ n ≤ z 2 k ∧ inP d k p) → ∃ v, (0 ≤ v ∧ v < 256) ∧ cBy s C o p = sb v ∧ tBy t H o p = v) ∧
  (∀ k, 0 ≤ k → k < d 0 1 → d 5 k = 4 → n ≤ z 2 k → ∀ i, 0 ≤ i → i < szK d k (plK d k) → cBy s C 0 (plK d k - ouB d 0 + i) = sb (nopB (szK d k (plK d k)) i)) ∧
  ∀ k, 0 ≤ k → k < d 0 1 → mvK d k → n ≤ z 2 k → szK d k (plK d k) = z 1 k → ∀ i, 0 ≤ i → i < z 1 k → cBy s C 0 (plK d k - ouB d 0 + i) = sb (O (z 3 k) 0 0 (z 0 k + i))
/-- a run of bytes is written, the same on both sides -/
theorem outI.wr (h : outI C H O s t d z n) (hn : n ≤ n') (hF : ∀ o' p', 0 ≤ o' → o' < 3 → ¬ (o' = o ∧ q ≤ p' ∧ p' < q + m) → cBy u C o' p' = cBy s C o' p') (hG : ∀ o' p', 0 ≤ o' → o' < 3 → 0 ≤ p' → p' < 4096 → ¬ (o' = o ∧ q ≤ p' ∧ p' < q + m) → tBy w H o' p' = tBy t H o' p') (hE : ∀ i, 0 ≤ i → i < m → ∃ v, (0 ≤ v ∧ v < 256) ∧ cBy u C o (q + i) = sb v ∧ tBy w H o (q + i) = v)
    (hd : ∀ k, 0 ≤ k → k < d 0 1 → ¬ d 5 k = 0 → n' ≤ z 2 k → ∀ p, inP d k p → ¬ (o = 0 ∧ q ≤ p ∧ p < q + m)) (hc : ∀ k, 0 ≤ k → k < d 0 1 → ¬ d 5 k = 0 → n ≤ z 2 k → ¬ n' ≤ z 2 k → ∀ p, inP d k p → o = 0 ∧ q ≤ p ∧ p < q + m) : outI C H O u w d z n' := by
  obtain ⟨h1, h2, h3⟩ := h
  refine ⟨fun o' p' o0 o1 p0 p1 hp => ?_, fun k k0 k1 k5 kn i i0 i1 => ?_, fun k k0 k1 km kn ks i i0 i1 => ?_⟩
  · by_cases c : o' = o ∧ q ≤ p' ∧ p' < q + m
    · have := hE (p' - q) (by omega) (by omega)
      rw [show q + (p' - q) = p' by omega, ← c.1] at this
      exact this
    · rw [hF o' p' o0 o1 c, hG o' p' o0 o1 p0 p1 c]
      refine h1 o' p' o0 o1 p0 p1 fun hq => ?_
      obtain ⟨e0, k, kk, k5, kn, ki⟩ := hq
      by_cases c' : n' ≤ z 2 k
      · exact hp ⟨e0, k, kk, k5, c', ki⟩
      · have := hc k kk.1 kk.2 k5 kn c' p' ki
        exact c ⟨by omega, this.2⟩
  · have hi : inP d k (plK d k - ouB d 0 + i) := by constructor <;> omega
    have := hd k k0 k1 (by omega) kn _ hi
    rw [hF 0 _ (by decide) (by decide) (by omega)]
    exact h2 k k0 k1 k5 (by omega) i i0 i1
  · have hi : inP d k (plK d k - ouB d 0 + i) := by constructor <;> omega
    unfold mvK at km
    have := hd k k0 k1 (by omega) kn _ hi
    rw [hF 0 _ (by decide) (by decide) (by omega)]
    exact h3 k k0 k1 km (by omega) ks i i0 i1
/-- nothing is written -/
theorem outI.no (h : outI C H O s t d z n) (hn : n ≤ n') (hF : ∀ o' p', 0 ≤ o' → o' < 3 → cBy u C o' p' = cBy s C o' p') (hG : ∀ o' p', 0 ≤ o' → o' < 3 → 0 ≤ p' → p' < 4096 → tBy w H o' p' = tBy t H o' p') (hc : ∀ k, 0 ≤ k → k < d 0 1 → ¬ d 5 k = 0 → n ≤ z 2 k → ¬ n' ≤ z 2 k → ∀ p, ¬ inP d k p) : outI C H O u w d z n' :=
  h.wr (o := 0) (q := 0) (m := 0) hn (fun o' p' o0 o1 _ => hF o' p' o0 o1) (fun o' p' o0 o1 p0 p1 _ => hG o' p' o0 o1 p0 p1) (fun i i0 i1 => by omega) (fun k k0 k1 k5 kn p hp => by omega) fun k k0 k1 k5 kn kn' p hp => absurd hp (hc k k0 k1 k5 kn kn' p)
/-- the outputs' cells -/
def outK (C : Int) (s : jS) : Prop := ∀ o, 0 ≤ o → o < 3 → 0 ≤ C + 4275 + 34 + o ∧ jK s (C + 4275 + 34 + o) = 1001 ∧ jN s (C + 4275 + 34 + o) = 4096
theorem outK.of (h : jTt s 55 (C + 4275)) : outK C s := fun o o0 o1 => by
  have h1 := (h.fld (k := 32) (o := 33) (t' := 74448900) (by decide)).2.elt (show jStA 74448900 = some (1, 1, 2101249) by decide) o0 (show o < 3 from o1)
  have h2 := h1.2.zz
  rw [show C + 4275 + 33 + 1 + 1 * o = C + 4275 + 34 + o by omega] at h2
  exact ⟨h2.1, h2.2.2.1, h2.2.2.2 (by decide) (by decide)⟩
theorem outK.cg (h : outK C s) (m : jSm s u) : outK C u := fun o o0 o1 => by rw [m.1, m.2.1]; exact h o o0 o1
end jLoo
