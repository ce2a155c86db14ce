/-! the linker: one run of bytes written for a relocation, both sides *-/
set_option maxRecDepth 100000
section jLpt
variable {s t u w s' t' : jS} {a b k m n o p q v l x c f g i j A H C K S X P Q rr n' sec : Int} {O : Int → Int → Int → Int → Int} {d e z y : Int → Int → Int} {G : Int → Int}
/-- relocation n is in piece k, at A, m bytes: plain, or its own as a whole -/
def rgP (d z : Int → Int → Int) (n k sec A m : Int) : Prop := (0 ≤ k ∧ k < d 0 1) ∧ d 1 (d 11 k) = sec ∧ (plK d k - ouB d sec ≤ A ∧ A + m ≤ plK d k - ouB d sec + szK d k (plK d k)) ∧ (∀ k', 0 ≤ k' → k' < d 0 1 → ¬ d 5 k' = 0 → d 1 (d 11 k') = 0) ∧ ((d 5 k = 0 ∧ ∀ k', 0 ≤ k' → k' < d 0 1 → ¬ d 5 k' = 0 → ¬ z 2 k' = n) ∨ (z 2 k = n ∧ sec = 0 ∧ (∀ k', 0 ≤ k' → k' < d 0 1 → z 2 k' = n → k' = k) ∧ A = plK d k - ouB d sec ∧ m = szK d k (plK d k)))
theorem outI.put (h : outI C H O s t d z n) (v : vLy d) (r : rgP d z n k sec A m) (hF : ∀ o' p', 0 ≤ o' → o' < 3 → ¬ (o' = sec ∧ A ≤ p' ∧ p' < A + m) → cBy u C o' p' = cBy s C o' p') (hG : ∀ o' p', 0 ≤ o' → o' < 3 → 0 ≤ p' → p' < 4096 → ¬ (o' = sec ∧ A ≤ p' ∧ p' < A + m) → tBy w H o' p' = tBy t H o' p') (hE : ∀ i, 0 ≤ i → i < m → ∃ v, (0 ≤ v ∧ v < 256) ∧ cBy u C sec (A + i) = sb v ∧ tBy w H sec (A + i) = v) : outI C H O u w d z (n + 1) := by
  obtain ⟨⟨k0, k1⟩, ho, ⟨A0, A1⟩, hp, hc⟩ := r
  refine h.wr (o := sec) (q := A) (m := m) (by omega) hF hG hE (fun k' k0' k1' k5 kn p hi => fun q => ?_) (fun k' k0' k1' k5 kn kn' p hi => ?_)
  · have e1 := hp k' k0' k1' k5
    by_cases c : k' = k
    · rcases hc with ⟨c5, -⟩ | ⟨cz, -⟩
      · rw [c] at k5; exact k5 c5
      · rw [c, cz] at kn; omega
    · have hs : sec = 0 := q.1
      obtain ⟨i1, i2⟩ := hi
      rw [hs] at A0 A1
      by_cases cl : k' < k
      · have := pl_lt v k0' cl k1 (by omega)
        omega
      · have := pl_lt v k0 (show k < k' by omega) k1' (by omega)
        omega
  · rcases hc with ⟨-, c2⟩ | ⟨cz, cs, cu, cA, cm⟩
    · exact absurd (show z 2 k' = n by omega) (c2 k' k0' k1' k5)
    · have := cu k' k0' k1' (by omega)
      obtain ⟨i1, i2⟩ := hi
      rw [this] at i1 i2
      rw [cs] at cA ⊢
      exact ⟨rfl, by omega, by omega⟩
/-- the bytes at hand in a plain piece -/
theorem outI.rd (h : outI C H O s t d z n) (v : vLy d) (r : rgP d z n k sec A m) (c5 : d 5 k = 0) (s0 : 0 ≤ sec) (s3 : sec < 3) (b0 : 0 ≤ A) (b1 : A + m ≤ 4096) : ∀ i, 0 ≤ i → i < m → (0 ≤ tBy t H sec (A + i) ∧ tBy t H sec (A + i) < 256) ∧ cBy s C sec (A + i) = sb (tBy t H sec (A + i)) := fun i i0 i1 => by
  obtain ⟨⟨k0, k1⟩, ho, ⟨A0, A1⟩, hp, hc⟩ := r
  obtain ⟨x, x1, x2, x3⟩ := h.1 sec (A + i) s0 s3 (by omega) (by omega) fun ⟨q1, k', ⟨k0', k1'⟩, k5, kn, i1', i2'⟩ => by
    have e1 := hp k' k0' k1' k5
    have c : ¬ k' = k := fun q => by rw [q] at k5; exact k5 c5
    rw [q1] at A0 A1
    by_cases cl : k' < k
    · have := pl_lt v k0' cl k1 (by omega)
      omega
    · have := pl_lt v k0 (show k < k' by omega) k1' (by omega)
      omega
  rw [x3]; exact ⟨x1, x2⟩
/-- what relocating leaves -/
def rlE (C H : Int) (O : Int → Int → Int → Int → Int) (s t : jS) (d z : Int → Int → Int) (n : Int) (r : jS × Bool × Int) (q : jS × Int) : Prop := (q.2 = 0 ∧ lkX C H s t 1 6 r q.1) ∨ (q.2 = 1 ∧ r.2 = (false, 0) ∧ cRS C s r.1 ∧ tRS H t q.1 ∧ outI C H O r.1 q.1 d z (n + 1))
theorem rlE.pre {r : jS × Bool × Int} {q : jS × Int} (h : rlE C H O u w d z n r q) (g : cRS C s u) (g' : tRS H t w) : rlE C H O s t d z n r q := by
  rcases h with ⟨h1, h2⟩ | ⟨h1, h2, h3, h4, h5⟩
  · exact .inl ⟨h1, h2.rs g.rw g'.rw⟩
  · exact .inr ⟨h1, h2, g.trans h3, g'.trans h4, h5⟩
/-- a run of bytes written, the same on both sides -/
def rwW (C H : Int) (s t : jS) (sec A m : Int) (u w : jS) : Prop := cRS C s u ∧ tRS H t w ∧ (∀ i, 0 ≤ i → i < m → ∃ v, (0 ≤ v ∧ v < 256) ∧ cBy u C sec (A + i) = sb v ∧ tBy w H sec (A + i) = v) ∧ (∀ o' p', 0 ≤ o' → o' < 3 → ¬ (o' = sec ∧ A ≤ p' ∧ p' < A + m) → cBy u C o' p' = cBy s C o' p') ∧ ∀ o' p', 0 ≤ o' → o' < 3 → 0 ≤ p' → p' < 4096 → ¬ (o' = sec ∧ A ≤ p' ∧ p' < A + m) → tBy w H o' p' = tBy t H o' p'
theorem rwW.out (g : rwW C H s t sec A m u w) (h : outI C H O s t d z n) (v : vLy d) (r : rgP d z n k sec A m) : outI C H O u w d z (n + 1) := h.put v r g.2.2.2.1 g.2.2.2.2 g.2.2.1
/-- words' scratch of the twin's ahead of it -/
theorem rwW.pre (g : rwW C H s t' sec A m u w) (h : tW6 H t t') : rwW C H s t sec A m u w := ⟨g.1, h.rs.trans g.2.1, g.2.2.1, g.2.2.2.1, fun o' p' o0 o1 p0 p1 q => by
  rw [g.2.2.2.2 o' p' o0 o1 p0 p1 q]; exact h.2 _ _ _ (by omega)⟩
/-- the same number is put on both sides -/
theorem x_puts (hO : outK C s) (s0 : 0 ≤ sec) (s3 : sec < 3) (b0 : 0 ≤ A) (b1 : A + m ≤ 4096) (m0 : 0 ≤ m) (m8 : m ≤ 8) (hp : jlg p) (hq : jlg q) (hpq : ∀ i, 0 ≤ i → i < m → byV p i = byV q i) : ∃ u w, m_X35_put s l (C + 4275 + 34 + sec) A m p = some (u, 0) ∧ m_X37_store t H (4096 * sec + A) m q = some (w, 0) ∧ rwW C H s t sec A m u w ∧ (∀ i, 0 ≤ i → i < m → cBy u C sec (A + i) = sb (byV p i) ∧ tBy w H sec (A + i) = byV q i) ∧ (∀ c a k, ¬ (c = 1001 ∧ a = C + 4275 + 34 + sec) → jf u c a k = jf s c a k) ∧ ∀ c a k, ¬ (c = 1000 ∧ a = H + 205) → jf w c a k = jf t c a k := by
  obtain ⟨o0, oK, oN⟩ := hO sec s0 s3
  obtain ⟨u, e1, m1, b1', F1⟩ := c_putB (l := l) o0 oK oN b0 b1 m0 m8 hp
  obtain ⟨w, e2, m2, b2', F2⟩ := t_storeB (t := t) (H := H) (p := 4096 * sec + A) (n := m) (v := q) (by omega) (by omega) m0 m8 hq
  have cb : ∀ i, 0 ≤ i → i < m → tBy w H sec (A + i) = byV q i := fun i i0 i1 => by
    show jf w 1000 (H + 205) (4096 * sec + (A + i)) = _
    rw [← Int.add_assoc]; exact b2' i i0 i1
  refine ⟨u, w, e1, e2, ⟨⟨m1, fun c a k' q' => F1 _ _ _ (by omega)⟩, ⟨m2, fun c a k' q' => F2 _ _ _ (by omega)⟩, fun i i0 i1 => ⟨byV q i, byV_lo, by rw [← hpq i i0 i1]; exact b1' i i0 i1, cb i i0 i1⟩, fun o' p' o0' o1' q' => F1 _ _ _ (by omega), fun o' p' o0' o1' p0' p1' q' => F2 _ _ _ (by omega)⟩, fun i i0 i1 => ⟨b1' i i0 i1, cb i i0 i1⟩, fun c a k q' => F1 _ _ _ (by omega), fun c a k q' => F2 _ _ _ (by omega)⟩
/-- nothing is written, and no piece waits for it -/
theorem outI.skip (h : outI C H O s t d z n) (hF : ∀ o' p', 0 ≤ o' → o' < 3 → cBy u C o' p' = cBy s C o' p') (hG : ∀ o' p', 0 ≤ o' → o' < 3 → 0 ≤ p' → p' < 4096 → tBy w H o' p' = tBy t H o' p') (hc : ∀ k, 0 ≤ k → k < d 0 1 → ¬ d 5 k = 0 → z 2 k = n → szK d k (plK d k) = 0) : outI C H O u w d z (n + 1) := h.no (by omega) hF hG fun k k0 k1 k5 kn kn' p hi => by
  have := hc k k0 k1 k5 (by omega)
  obtain ⟨i1, i2⟩ := hi
  omega
/-- words as bytes -/
theorem leN_by : ∀ m : Nat, leN (byV p) m = p % 256 ^ m
  | 0 => by show (0 : Int) = p % 256 ^ 0; rw [Int.pow_zero, Int.emod_one]
  | m + 1 => by
    show leN (byV p) m + byV p m * 256 ^ m = _
    have e : (2 : Int) ^ (8 * (m : Int)).toNat = 256 ^ m := by
      rw [show (8 * (m : Int)).toNat = 8 * m by omega, Int.pow_mul]; rfl
    rw [leN_by m]
    unfold byV
    rw [e, Int.pow_succ]
    have pz : (0 : Int) < 256 ^ m := Int.pow_pos (by decide)
    have h1 := Int.emod_add_mul_ediv p (256 ^ m)
    have h2 := Int.emod_add_mul_ediv (p / 256 ^ m) 256
    have h3 := Int.emod_add_mul_ediv p (256 ^ m * 256)
    rw [← Int.ediv_ediv_of_nonneg (Int.le_of_lt pz)] at h3
    rw [← h2, Int.mul_add] at h1
    rw [Int.mul_assoc] at h3
    rw [Int.mul_comm (p / 256 ^ m % 256) (256 ^ m)]
    generalize hX : (256 : Int) ^ m * (p / 256 ^ m % 256) = X at *
    generalize hY : (256 : Int) ^ m * (256 * (p / 256 ^ m / 256)) = Y at *
    omega
end jLpt
