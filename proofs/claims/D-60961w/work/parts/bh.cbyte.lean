/-! the component's bytes of a file: put, align, string, patch -/
section jCbyte
variable {s t u : jS} {B N L V p n v f a b x y : Int} {g g' : Int → Int} {S w : List Int} {o : Int → Int → Int → Int}
/-- n bytes of a number from p on -/
def gNb (g : Int → Int) (p n v : Int) : Int → Int := fun i => if p ≤ i ∧ i < p + n then by4 v (i - p) else g i
theorem gN_lo {i : Int} (h : i < p ∨ p + n ≤ i) : gNb g p n v i = g i := by unfold gNb; rw [if_neg (by omega)]
theorem gN_4 : B4 (gNb g p 4 v) p v := by
  refine ⟨?_, ?_, ?_, ?_⟩ <;> unfold gNb <;> rw [if_pos (by omega)]
  · rw [show p - p = 0 by omega, by4_0]
  · rw [show p + 1 - p = 1 by omega, by4_1]
  · rw [show p + 2 - p = 2 by omega, by4_2]
  · rw [show p + 3 - p = 3 by omega, by4_3]
theorem gN_2 : B2 (gNb g p 2 v) p v := by
  refine ⟨?_, ?_⟩ <;> unfold gNb <;> rw [if_pos (by omega)]
  · rw [show p - p = 0 by omega, by4_0]
  · rw [show p + 1 - p = 1 by omega, by4_1]
theorem gN_1 : gNb g p 1 v p = v % 256 := by unfold gNb; rw [if_pos (by omega), show p - p = 0 by omega, by4_0]
theorem B4.gn {q z : Int} (h : B4 g q z) (d : q + 4 ≤ p ∨ p + n ≤ q) : B4 (gNb g p n v) q z := h.of fun i i0 i1 => gN_lo (by omega)
theorem B2.gn {q z : Int} (h : B2 g q z) (d : q + 2 ≤ p ∨ p + n ≤ q) : B2 (gNb g p n v) q z := h.of fun i i0 i1 => gN_lo (by omega)
theorem gN_z {i : Int} (h : p ≤ i ∧ i < p + n) : gNb g p n 0 i = 0 := by unfold gNb; rw [if_pos h]; unfold by4; simp
theorem isM1 (h : 6 ≤ x ∧ x ≤ 8) : m_X13_isMoves s x = some 1 := by rw [e_X13_isMoves, if_pos (by omega)]
theorem isM0 (h : x < 6 ∨ 8 < x) : m_X13_isMoves s x = some 0 := by rw [e_X13_isMoves, if_neg (by omega)]
theorem by4_lo (i : Int) : 0 ≤ by4 v i ∧ by4 v i < 256 := by unfold by4; omega
/-- bytes with room N, p of them put: what they are -/
def wB (s : jS) (B N : Int) (g : Int → Int) (p : Int) : Prop := jN s (B + 1) = N ∧ 0 ≤ p ∧ (p ≤ N ∧ jf s 23 B 2 = 0 ∧ jf s 23 B 1 = p ∧ (∀ i, 0 ≤ i → i < p → jf s 1001 (B + 1) i = sb (g i) ∧ 0 ≤ g i ∧ g i < 256) ∨ N < p ∧ jf s 23 B 2 = 1 ∧ jf s 23 B 1 = N)
theorem wB.kf {lo n : Int} (h : wB s B N g p) (k : jFx s t lo n) (d : B + 2 ≤ lo ∨ lo + n ≤ B) : wB t B N g p := by
  obtain ⟨h0, h1, h2⟩ := h
  have e : ∀ c j, jf t c B j = jf s c B j := fun c j => k.F (by omega) j
  have e' : ∀ c j, jf t c (B + 1) j = jf s c (B + 1) j := fun c j => k.F (by omega) j
  refine ⟨by rw [k.N]; exact h0, h1, ?_⟩
  rw [e, e]
  rcases h2 with ⟨a, b, c, d⟩ | h2
  · exact .inl ⟨a, b, c, fun i i0 i1 => by rw [e']; exact d i i0 i1⟩
  · exact .inr h2
theorem c_p1 (h : wB s B N g p) (hN : N ≤ 100000) (v : Int) : jE (m_X19_put1 s B v) fun q => jFx s q.1 B 2 ∧ wB q.1 B N (gNb g p 1 v) (p + 1) := by
  obtain ⟨hn, p0, h⟩ := h
  rw [em_X19_put1]; unfold dm_X19_put1
  simp only [em_X19_put1, dm_X19_put1, eu_X19_put1_25, du_X19_put1_25, eu_X19_put1_20, du_X19_put1_20]
  have ov : ∀ t, jFx s t B 2 → jf t 23 B 1 = N → jf t 23 B 2 = 1 → N < p + 1 → wB t B N (gNb g p 1 v) (p + 1) := fun t k h1 h2 h3 => ⟨by rw [k.N]; exact hn, by omega, .inr ⟨h3, h2, h1⟩⟩
  rcases h with ⟨h1, h2, h3, h4⟩ | ⟨h1, h2, h3⟩
  · rw [if_pos h2, h3, hn]
    by_cases c : p = N
    · rw [if_pos c, jzb_in (.inr rfl), Option.bind_some]
      simp only [jls]
      rw [jf_pos ⟨rfl, rfl, rfl⟩, if_neg (by decide)]
      have k : jFx s (jp s 23 B 2 1) B 2 := jFx.rfl.jp rfl (by omega) (by omega)
      exact jS_end ⟨k, ov _ k (by (repeat (first | rw [jf_neg (by omega)] | rw [jf_pos (by omega)] | rw [ou_neg (by omega)] | rw [ou_pos (by omega)])); omega) (by (repeat (first | rw [jf_neg (by omega)] | rw [jf_pos (by omega)] | rw [ou_neg (by omega)] | rw [ou_pos (by omega)]))) (by omega)⟩
    · rw [if_neg c, jzb_in (.inl rfl), Option.bind_some]
      simp only [jls]
      rw [jf_pos ⟨rfl, rfl, rfl⟩, if_pos rfl, jf_neg (by omega), h3, show jN (jp s 23 B 2 0) (B + 1) = N from hn, jst_in p0 (by omega), Option.bind_some, W8_W8]
      have k : jFx s (jp (jp (jp s 23 B 2 0) 1001 (B + 1) p (sb (v % 256))) 23 B 1 (p + 1)) B 2 := ((jFx.rfl.jp rfl (by omega) (by omega)).jp rfl (by omega) (by omega)).jp rfl (by omega) (by omega)
      rw [jf_neg (by omega), jf_neg (by omega), h3, W32_in (by omega) (by omega)]
      refine jS_end ⟨k, by rw [k.N]; exact hn, by omega, .inl ⟨by omega, by (repeat (first | rw [jf_neg (by omega)] | rw [jf_pos (by omega)] | rw [ou_neg (by omega)] | rw [ou_pos (by omega)])), by (repeat (first | rw [jf_neg (by omega)] | rw [jf_pos (by omega)] | rw [ou_neg (by omega)] | rw [ou_pos (by omega)])), fun i i0 i1 => ?_⟩⟩
      by_cases ci : i = p
      · subst ci
        rw [gN_1]
        exact ⟨by (repeat (first | rw [jf_neg (by omega)] | rw [jf_pos (by omega)] | rw [ou_neg (by omega)] | rw [ou_pos (by omega)])), by omega, by omega⟩
      · rw [gN_lo (by omega)]
        (repeat (first | rw [jf_neg (by omega)] | rw [jf_pos (by omega)] | rw [ou_neg (by omega)] | rw [ou_pos (by omega)])); exact h4 i i0 (by omega)
  · rw [if_neg (by omega), jzb_in (.inr rfl), Option.bind_some]
    simp only [jls]
    rw [jf_pos ⟨rfl, rfl, rfl⟩, if_neg (by decide)]
    have k : jFx s (jp s 23 B 2 1) B 2 := jFx.rfl.jp rfl (by omega) (by omega)
    exact jS_end ⟨k, ov _ k (by (repeat (first | rw [jf_neg (by omega)] | rw [jf_pos (by omega)] | rw [ou_neg (by omega)] | rw [ou_pos (by omega)])); exact h3) (by (repeat (first | rw [jf_neg (by omega)] | rw [jf_pos (by omega)] | rw [ou_neg (by omega)] | rw [ou_pos (by omega)]))) (by omega)⟩
theorem wB.ov (h : wB s B N g p) (d : N < p) (e : N < x) (x0 : 0 ≤ x) : wB s B N g' x := by
  obtain ⟨a, b, c⟩ := h
  refine ⟨a, x0, .inr ?_⟩
  rcases c with c | c
  · exact absurd c.1 (by omega)
  · exact ⟨e, c.2⟩
theorem wB.eq (h : wB s B N g p) (e : ∀ i, 0 ≤ i → i < p → g' i = g i) : wB s B N g' p := by
  obtain ⟨h0, h1, h2⟩ := h
  refine ⟨h0, h1, h2.imp (fun ⟨a, b, c, d⟩ => ⟨a, b, c, fun i i0 i1 => by rw [e i i0 i1]; exact d i i0 i1⟩) (fun x => x)⟩
theorem c_p2 (h : wB s B N g p) (hN : N ≤ 100000) (hv : jin v) : jE (m_X19_put2 s B v) fun q => jFx s q.1 B 2 ∧ wB q.1 B N (gNb g p 2 v) (p + 2) := by
  rw [em_X19_put2]; unfold dm_X19_put2
  refine jS_call (c_p1 h hN v) fun q ⟨k1, h1⟩ => ?_
  refine jS_call (c_p1 h1 hN (I_shr v 8)) fun q' ⟨k2, h2⟩ => ?_
  refine jS_end ⟨k1.trans k2, ?_⟩
  rw [show p + 2 = p + 1 + 1 by omega]
  refine h2.eq fun i i0 i1 => ?_
  rw [i_shr_p hv (by omega) (by omega)]
  unfold gNb
  by_cases c : i = p
  · rw [if_pos (by omega), if_neg (by omega), if_pos (by omega), c]
  · by_cases c1 : i = p + 1
    · rw [if_pos (by omega), if_pos (by omega), c1, show p + 1 - p = 1 by omega, show p + 1 - (p + 1) = 0 by omega, by4_0, by4_1]; rfl
    · rw [if_neg (by omega), if_neg (by omega), if_neg (by omega)]
theorem c_p4 (h : wB s B N g p) (hN : N ≤ 100000) (hv : jin v) : jE (m_X19_put4 s B v) fun q => jFx s q.1 B 2 ∧ wB q.1 B N (gNb g p 4 v) (p + 4) := by
  rw [em_X19_put4]; unfold dm_X19_put4
  have e16 : I_shr v 16 = v / 65536 := i_shr_p hv (by omega) (by omega)
  refine jS_call (c_p2 h hN hv) fun q ⟨k1, h1⟩ => ?_
  rw [e16]
  refine jS_call (c_p2 h1 hN (v := v / 65536) (by unfold jin at *; omega)) fun q' ⟨k2, h2⟩ => ?_
  refine jS_end ⟨k1.trans k2, ?_⟩
  rw [show p + 4 = p + 2 + 2 by omega]
  refine h2.eq fun i i0 i1 => ?_
  unfold gNb
  by_cases c : i < p + 2
  · rw [if_neg (c := p + 2 ≤ i ∧ i < p + 2 + 2) (by omega)]
    by_cases c1 : p ≤ i
    · rw [if_pos (by omega), if_pos (by omega)]
    · rw [if_neg (by omega), if_neg (by omega)]
  · rw [if_pos (by omega), if_pos (by omega)]
    have : i = p + 2 ∨ i = p + 3 := by omega
    rcases this with rfl | rfl
    · rw [show p + 2 - (p + 2) = 0 by omega, show p + 2 - p = 2 by omega, by4_0, by4_2]
    · rw [show p + 3 - (p + 2) = 1 by omega, show p + 3 - p = 3 by omega, by4_1, by4_3]; omega
/-- put4 of anything, when it is over already -/
theorem c_p4o (h : wB s B N g p) (hN : N ≤ 100000) (ho : N < p) (v : Int) : jE (m_X19_put4 s B v) fun q => jFx s q.1 B 2 ∧ wB q.1 B N g (p + 4) := by
  rw [em_X19_put4]; unfold dm_X19_put4
  have p2 : ∀ {s : jS} {p : Int} (h : wB s B N g p) (ho : N < p) (v : Int), jE (m_X19_put2 s B v) fun q => jFx s q.1 B 2 ∧ wB q.1 B N g (p + 2) := by
    intro s p h ho v
    rw [em_X19_put2]; unfold dm_X19_put2
    refine jS_call (c_p1 h hN v) fun q ⟨k1, h1⟩ => ?_
    refine jS_call (c_p1 h1 hN (I_shr v 8)) fun q' ⟨k2, h2⟩ => ?_
    exact jS_end ⟨k1.trans k2, h2.ov (by omega) (by omega) (by have := h.2.1; omega)⟩
  refine jS_call (p2 h ho v) fun q ⟨k1, h1⟩ => ?_
  refine jS_call (p2 h1 (by omega) (I_shr v 16)) fun q' ⟨k2, h2⟩ => ?_
  exact jS_end ⟨k1.trans k2, h2.ov (by omega) (by omega) (by have := h.2.1; omega)⟩
theorem rU_least {p q a : Int} (ha : 0 < a) (h0 : p ≤ q) (h1 : q ≤ rU p a) (h : q % a = 0) : q = rU p a := by
  obtain ⟨h2, h3, h4⟩ := rU_lo (p := p) ha
  have e : (rU p a - q) % a = 0 := by
    rw [Int.sub_emod, h4, h]; simp
  have e2 := Int.emod_eq_of_lt (a := rU p a - q) (b := a) (by omega) (by omega)
  omega
theorem c_align (h : wB s B N g p) (hN : N ≤ 100000) (ha : 0 < a) (ha1 : a ≤ 4096) : jE (m_X19_align s B a) fun q => jFx s q.1 B 2 ∧ ∃ g', wB q.1 B N g' (rU p a) ∧ (∀ i, i < p → g' i = g i) ∧ ∀ i, p ≤ i → i < rU p a → g' i = 0 := by
  obtain ⟨r1, r2, r3⟩ := rU_lo (p := p) ha
  rw [em_X19_align]; unfold dm_X19_align
  rw [eu_X19_align_0]; unfold du_X19_align_0
  refine jE_W2 (I := fun u x y => x = B ∧ y = a ∧ jFx s u B 2 ∧ ∃ q g', p ≤ q ∧ q ≤ rU p a ∧ wB u B N g' q ∧ (∀ i, i < p → g' i = g i) ∧ ∀ i, p ≤ i → i < q → g' i = 0) (m := fun u _ _ => if jf u 23 B 2 = 0 then 1 + rU p a - jf u 23 B 1 else 0) (fun u x y ⟨ex, ey, k, q, g1, q0, q1, w1, e1, e2⟩ => ?_) ⟨rfl, rfl, jFx.rfl, p, g, Int.le_refl _, r1, h, fun _ _ => rfl, fun i i0 i1 => by omega⟩
  subst ex; subst ey
  unfold b_X19_align_0
  have w1' := w1
  obtain ⟨n1, n2, n3⟩ := w1
  rcases n3 with ⟨m1, m2, m3, m4⟩ | ⟨m1, m2, m3⟩
  · rw [if_pos m2, m3, jdv_in (by omega), Option.bind_some, ← m3, m3]
    by_cases c : q % y = 0
    · rw [if_pos ((I_rem_0 (v := q) (by omega) ha (by omega)).mpr c)]
      refine jS_inr (jS_end ?_)
      have := rU_least ha q0 q1 c
      subst this
      exact ⟨k, g1, w1', e1, e2⟩
    · rw [if_neg (fun z => c ((I_rem_0 (v := q) (by omega) ha (by omega)).mp z))]
      have hq : q < rU p y := by
        rcases Int.lt_or_eq_of_le q1 with z | z
        · exact z
        · rw [z] at c; exact absurd r3 c
      refine jS_call (c_p1 w1' hN 0) fun q' ⟨k2, h2⟩ => ?_
      refine jS_end ⟨⟨rfl, rfl, k.trans k2, q + 1, _, by omega, by omega, h2, fun i i0 => by rw [gN_lo (by omega)]; exact e1 i i0, fun i i0 i1 => ?_⟩, ?_, ?_⟩
      · by_cases ci : i = q
        · subst ci; rw [gN_1]; rfl
        · rw [gN_lo (by omega)]; exact e2 i i0 (by omega)
      · omega
      · show (if jf q'.1 23 x 2 = 0 then 1 + rU p y - jf q'.1 23 x 1 else 0) < _
        obtain ⟨-, -, z⟩ := h2
        rcases z with ⟨z1, z2, z3, z4⟩ | ⟨z1, z2, z3⟩
        · rw [if_pos z2, z3]; omega
        · rw [if_neg (by omega)]; omega
  · rw [if_neg (by omega)]
    refine jS_inr (jS_end ⟨k, fun i => if i < p then g i else 0, ⟨n1, by omega, .inr ⟨by omega, m2, m3⟩⟩, fun i i0 => by show (if _ then _ else _) = _; rw [if_pos i0], fun i i0 i1 => by show (if _ then _ else _) = _; rw [if_neg (by omega)]⟩)
/-- whether a row stands at a place -/
theorem c_stands (hN : jN s (B + 1) ≤ 100000) (hL : 0 ≤ L ∧ jK s L = 1001 ∧ n ≤ jN s L) (n0 : 0 ≤ n) (a0 : 0 ≤ a) (hb : b ≤ jN s (B + 1)) (h32 : a + n ≤ 200000) : ∃ r, m_X19_stands s B L n a b = some r ∧ (r = 0 ∨ r = 1) ∧ (r = 1 ↔ a + n < b ∧ jf s 1001 (B + 1) (a + n) = 0 ∧ ∀ k, 0 ≤ k → k < n → jf s 1001 (B + 1) (a + k) = jf s 1001 L k) := by
  rw [em_X19_stands]; unfold dm_X19_stands
  rw [W32_in (z := a + n) (by omega) (by omega)]
  by_cases c : a + n < b
  · rw [if_pos c, jlt_in (by omega) (by omega), Option.bind_some]
    by_cases c1 : jf s 1001 (B + 1) (a + n) = 0
    · rw [if_pos c1, eu_X19_stands_24]; unfold du_X19_stands_24
      rcases jseekR (C := jc5 b_X19_stands_24) (s := s) (fun k => [B, L, n, a, k]) (fun k => ¬ jf s 1001 (B + 1) (a + k) = jf s 1001 L k) (fun _ => some 0) (some 1) 0 n n0 (fun k k0 k1 hk => by
          show b_X19_stands_24 s B L n a k = _
          unfold b_X19_stands_24
          rw [if_pos k1, W32_in (z := a + k) (by omega) (by omega), jlt_in (by omega) (by omega), Option.bind_some, show jld s 1001 L k = some (jf s 1001 L k) by unfold jld; rw [if_pos ⟨hL.1, hL.2.1, k0, by omega⟩], Option.bind_some, if_pos (Decidable.not_not.mp hk), W32_in (by omega) (by omega)]) (fun k k0 k1 hk => by
          show b_X19_stands_24 s B L n a k = _
          unfold b_X19_stands_24
          rw [if_pos k1, W32_in (z := a + k) (by omega) (by omega), jlt_in (by omega) (by omega), Option.bind_some, show jld s 1001 L k = some (jf s 1001 L k) by unfold jld; rw [if_pos ⟨hL.1, hL.2.1, k0, by omega⟩], Option.bind_some, if_neg hk, Wz_0]) (by
          show b_X19_stands_24 s B L n a n = _
          unfold b_X19_stands_24
          rw [if_neg (by omega), Wz_1]) with ⟨k, k0, k1, k2, -, e⟩ | ⟨k2, e⟩
      · exact ⟨0, e, .inl rfl, fun q => absurd q (by decide), fun q => absurd (q.2.2 k k0 k1) k2⟩
      · exact ⟨1, e, .inr rfl, fun _ => ⟨c, c1, fun k k0 k1 => Decidable.not_not.mp (k2 k k0 k1)⟩, fun _ => rfl⟩
    · rw [if_neg c1, Wz_0]
      exact ⟨0, rfl, .inl rfl, fun q => absurd q (by decide), fun q => absurd q.2.1 c1⟩
  · rw [if_neg c, Wz_0]
    exact ⟨0, rfl, .inl rfl, fun q => absurd q (by decide), fun q => absurd q.1 c⟩
/-- a row put behind -/
theorem c_putrow (h : wB s B N g p) (hN : N ≤ 100000) (hL : 0 ≤ L ∧ jK s L = 1001 ∧ n ≤ jN s L) (hd : L < B ∨ B + 2 ≤ L) (n0 : 0 ≤ n) (n1 : n ≤ 1000) (z : Int) : jE (u_X19_string_49 s B L n z 0) fun q => q.2 = z ∧ jFx s q.1 B 2 ∧ wB q.1 B N (fun i => if p ≤ i ∧ i < p + n then jf s 1001 L (i - p) % 256 else if i = p + n then 0 else g i) (p + n + 1) := by
  rw [eu_X19_string_49]; unfold du_X19_string_49
  refine jS_for (fun k u => jFx s u B 2 ∧ wB u B N (fun i => if p ≤ i ∧ i < p + k then jf s 1001 L (i - p) % 256 else g i) (p + k)) (fun k => [B, L, n, z, k]) 0 n n0 ⟨jFx.rfl, by
      rw [Int.add_zero]; exact h.eq fun i i0 i1 => by rw [if_neg (by omega)]⟩ (fun k u k0 k1 ⟨e1, e2⟩ => ?_) (fun u ⟨e1, e2⟩ => ?_)
  · show jE (b_X19_string_49 u B L n z k) _
    unfold b_X19_string_49
    rw [if_pos k1, show jld u 1001 L k = some (jf s 1001 L k) by unfold jld; rw [e1.K, e1.N, if_pos ⟨hL.1, hL.2.1, k0, by omega⟩, e1.F (by omega)], Option.bind_some]
    refine jS_call (c_p1 e2 hN _) fun q ⟨q1, q2⟩ => ?_
    rw [W32_in (by omega) (by omega)]
    refine jS_end ⟨rfl, e1.trans q1, ?_⟩
    show wB q.1 B N _ (p + (k + 1))
    rw [← Int.add_assoc]
    refine q2.eq fun i i0 i1 => ?_
    by_cases c : i = p + k
    · rw [c, gN_1, if_pos (by omega), show p + k - p = k by omega]
    · rw [gN_lo (by omega)]
      by_cases c1 : p ≤ i
      · rw [if_pos (by omega), if_pos (by omega)]
      · rw [if_neg (by omega), if_neg (by omega)]
  · show jE (b_X19_string_49 u B L n z n) _
    unfold b_X19_string_49
    rw [if_neg (by omega), eu_X19_string_69]; unfold du_X19_string_69
    refine jS_inr (jS_call (c_p1 e2 hN 0) fun q ⟨q1, q2⟩ => ?_)
    refine jS_end ⟨rfl, e1.trans q1, q2.eq fun i i0 i1 => ?_⟩
    by_cases c : i = p + n
    · rw [c, gN_1, if_neg (by omega), if_pos rfl]; rfl
    · rw [gN_lo (by omega)]
      by_cases c1 : p ≤ i
      · rw [if_pos (by omega), if_pos (by omega)]
      · rw [if_neg (by omega), if_neg (by omega), if_neg (by omega)]
/-- a row of letters -/
def pLt (s : jS) (L : Int) (w : List Int) : Prop := (0 ≤ L ∧ jK s L = 1001 ∧ (w.length : Int) ≤ jN s L) ∧ ∀ k : Nat, k < w.length → jf s 1001 L k = w.getD k 0 ∧ 0 < w.getD k 0 ∧ w.getD k 0 < 128
/-- a string among those from f on -/
theorem c_string (h : wB s B N g p) (hp : p ≤ N) (hN : N ≤ 100000) (hL : pLt s L w) (hw : w.length ≤ 1000) (hd : L < B ∨ B + 2 ≤ L) (f0 : 0 ≤ f) (hS : p = f + S.length) (hg : ∀ i : Nat, i < S.length → g (f + i) = S.getD i 0) : jE (m_X19_string s B L w.length f) fun q => q.2 = stP S w ∧ jFx s q.1 B 2 ∧ ∃ g', wB q.1 B N g' (f + (stN S w).length) ∧ (∀ i, i < p → g' i = g i) ∧ ∀ i : Nat, i < (stN S w).length → g' (f + i) = (stN S w).getD i 0 := by
  have hh := h
  obtain ⟨b1, b2, b3⟩ := h
  obtain ⟨b3, b4, b5, b6⟩ := b3.resolve_right (by omega)
  have st : ∀ a : Nat, a < S.length → ∃ r, m_X19_stands s B L w.length (f + a) p = some r ∧ (r = 0 ∨ r = 1) ∧ (r = 1 ↔ stAt S w a = true) := fun a ha => by
    obtain ⟨r, e, r0, r1⟩ := c_stands (s := s) (B := B) (L := L) (n := w.length) (a := f + a) (b := p) (by omega) hL.1 (by omega) (by omega) (by omega) (by omega)
    refine ⟨r, e, r0, r1.trans ?_⟩
    rw [stAt_iff]
    have hz : ∀ i : Nat, i < S.length → jf s 1001 (B + 1) (f + i) = sb (S.getD i 0) ∧ 0 ≤ S.getD i 0 ∧ S.getD i 0 < 256 := fun i hi => by
      have := b6 (f + i) (by omega) (by omega)
      rw [hg i hi] at this; exact this
    constructor
    · rintro ⟨c1, c2, c3⟩
      have l1 : a + w.length < S.length := by omega
      refine ⟨l1, ?_, fun k hk => ?_⟩
      · obtain ⟨z1, z2, z3⟩ := hz _ l1
        rw [show f + (a : Int) + w.length = f + ((a + w.length : Nat) : Int) by omega, z1] at c2
        unfold sb at c2; split at c2 <;> omega
      · obtain ⟨z1, z2, z3⟩ := hz (a + k) (by omega)
        have := c3 k (by omega) (by omega)
        obtain ⟨y1, y2, y3⟩ := hL.2 k hk
        rw [show f + (a : Int) + k = f + ((a + k : Nat) : Int) by omega, z1, y1] at this
        unfold sb at this; split at this <;> omega
    · rintro ⟨c1, c2, c3⟩
      refine ⟨by omega, ?_, fun k k0 k1 => ?_⟩
      · rw [show f + (a : Int) + w.length = f + ((a + w.length : Nat) : Int) by omega, (hz _ c1).1, c2]; rfl
      · have := c3 k.toNat (by omega)
        obtain ⟨y1, y2, y3⟩ := hL.2 k.toNat (by omega)
        rw [nt k0] at y1
        rw [show f + (a : Int) + k = f + ((a + k.toNat : Nat) : Int) by omega, (hz _ (by omega)).1, y1, this]
        unfold sb; rw [if_pos y3]
  rw [em_X19_string]; unfold dm_X19_string
  rw [eu_X19_string_3]; unfold du_X19_string_3
  have rS : ∀ a, f ≤ a → a < p → b_X19_string_3 s B L w.length f a = if stAt S w (a - f).toNat = true then jinr (some (s, a - f)) else some (.inl (s, [B, L, w.length, f, a + 1])) := fun a a0 a1 => by
    obtain ⟨r, e, r0, r1⟩ := st (a - f).toNat (by omega)
    rw [nt (by omega), show f + (a - f) = a by omega] at e
    unfold b_X19_string_3
    rw [b5, if_pos a1, e, Option.bind_some, W32_in (by omega) (by omega)]
    by_cases c : r = 0
    · rw [if_pos c, if_neg (fun z => by have := r1.mpr z; omega)]
    · rw [if_neg c, if_pos (r1.mp (by omega)), eu_X19_string_27]; unfold du_X19_string_27
      rw [W32_in (by omega) (by omega)]
  rcases jseekW (C := jc5 b_X19_string_3) (s := s) (fun a => [B, L, w.length, f, a]) (fun a => stAt S w (a - f).toNat = true) (fun a => some (s, a - f)) (u_X19_string_38 s B L w.length f) f p (by omega) (fun a a0 a1 hk => by
      show b_X19_string_3 s B L w.length f a = _
      rw [rS a a0 a1, if_neg hk]) (fun a a0 a1 hk => by
      show b_X19_string_3 s B L w.length f a = _
      rw [rS a a0 a1, if_pos hk]) (by
      show b_X19_string_3 s B L w.length f p = _
      unfold b_X19_string_3
      rw [b5, if_neg (by omega)]) with ⟨a, a0, a1, a2, a3, e⟩ | ⟨a2, e⟩
  · rw [e]
    have hP : stP S w = (a - f).toNat := stP_eq a2 fun q hq => Bool.eq_false_iff.mpr fun z => a3 (f + q) (by omega) (by omega) (by rw [show (f + (q : Int) - f).toNat = q by omega]; exact z)
    have hn : stN S w = S := by unfold stN; rw [if_pos (by omega)]
    rw [hn]
    exact jS_end ⟨by rw [hP]; show a - f = _; omega, jFx.rfl, g, by rw [← hS]; exact hh, fun _ _ => rfl, hg⟩
  · rw [e]
    have hP : stP S w = S.length := stP_no fun q hq => Bool.eq_false_iff.mpr fun z => a2 (f + q) (by omega) (by omega) (by rw [show (f + (q : Int) - f).toNat = q by omega]; exact z)
    have hn : stN S w = S ++ (w ++ [0]) := by unfold stN; rw [if_neg (by omega)]
    rw [eu_X19_string_38]; unfold du_X19_string_38
    simp only [jlet]
    rw [b5, W32_in (by omega) (by omega)]
    refine jE_mono (c_putrow hh hN hL.1 hd (by omega) (by omega) (p - f)) fun q ⟨q1, q2, q3⟩ => ⟨by rw [q1, hP]; omega, q2, (fun i => if p ≤ i ∧ i < p + (w.length : Int) then jf s 1001 L (i - p) % 256 else if i = p + w.length then 0 else g i), ?_, fun i i0 => ?_, fun i i0 => ?_⟩
    · rw [hn]; simp only [List.length_append, List.length_cons, List.length_nil]
      rw [show f + ((S.length + (w.length + (0 + 1)) : Nat) : Int) = p + w.length + 1 by omega]
      exact q3
    · show (if _ then _ else if _ then _ else _) = _
      rw [if_neg (by omega), if_neg (by omega)]
    · rw [hn] at i0 ⊢
      simp only [List.length_append, List.length_cons, List.length_nil] at i0
      show (if p ≤ f + (i : Int) ∧ f + (i : Int) < p + w.length then jf s 1001 L (f + (i : Int) - p) % 256 else if f + (i : Int) = p + w.length then 0 else g (f + i)) = _
      rw [getD_app]
      by_cases c : i < S.length
      · rw [if_pos c, if_neg (by omega), if_neg (by omega)]; exact hg i c
      · rw [if_neg c, getD_app]
        by_cases c1 : i - S.length < w.length
        · obtain ⟨y1, y2, y3⟩ := hL.2 (i - S.length) c1
          rw [if_pos c1, if_pos (by omega), show f + (i : Int) - p = ((i - S.length : Nat) : Int) by omega, y1]; omega
        · rw [if_neg c1, if_neg (by omega), if_pos (by omega), show i - S.length - w.length = 0 by omega]; rfl
/-- the same when it is over already -/
theorem c_strO (h : wB s B N g p) (hp : N < p) (hN : N ≤ 100000) (hL : 0 ≤ L ∧ jK s L = 1001 ∧ n ≤ jN s L) (n0 : 0 ≤ n) (n1 : n ≤ 1000) (hd : L < B ∨ B + 2 ≤ L) (f0 : 0 ≤ f) (f1 : f ≤ N) : jE (m_X19_string s B L n f) fun q => jFx s q.1 B 2 ∧ ∀ g' p', N < p' → wB q.1 B N g' p' := by
  have hh := h
  obtain ⟨b1, b2, b3⟩ := h
  obtain ⟨b3, b4, b5⟩ := b3.resolve_left (by omega)
  rw [em_X19_string]; unfold dm_X19_string
  rw [eu_X19_string_3]; unfold du_X19_string_3
  refine jS_for (fun k u => u = s) (fun a => [B, L, n, f, a]) f N f1 rfl (fun a u a0 a1 e => ?_) (fun u e => ?_)
  · subst e
    show jE (b_X19_string_3 u B L n f a) _
    unfold b_X19_string_3
    obtain ⟨r, e, r0, r1⟩ := c_stands (s := u) (B := B) (L := L) (n := n) (a := a) (b := N) (by omega) hL n0 (by omega) (by omega) (by omega)
    rw [b5, if_pos a1, e, Option.bind_some, W32_in (by omega) (by omega)]
    by_cases c : r = 0
    · rw [if_pos c]; exact jS_end ⟨rfl, rfl⟩
    · rw [if_neg c, eu_X19_string_27]; unfold du_X19_string_27
      exact jS_inr (jS_end ⟨jFx.rfl, fun g' p' z => hh.ov hp z (by omega)⟩)
  · subst e
    show jE (b_X19_string_3 u B L n f N) _
    unfold b_X19_string_3
    rw [b5, if_neg (by omega), eu_X19_string_38]; unfold du_X19_string_38
    simp only [jlet]
    exact jS_inr (jE_mono (c_putrow hh hN hL hd n0 n1 _) fun q ⟨q1, q2, q3⟩ => ⟨q2, fun g' p' z => q3.ov (by omega) z (by omega)⟩)
/-- a number at a place that there is -/
theorem c_patch (h : wB s (V + 1) N g p) (hN : N ≤ 100000) (a0 : 0 ≤ a) (a1 : a ≤ 100000) (hv : p ≤ N → a + 4 ≤ p ∧ jin v) : jE (m_X20_patch s V a v) fun q => jFx s q.1 (V + 1) 2 ∧ wB q.1 (V + 1) N (gNb g a 4 v) p := by
  rw [em_X20_patch]; unfold dm_X20_patch
  rw [eu_X20_patch_2]; unfold du_X20_patch_2
  obtain ⟨b1, b2, b3⟩ := h
  rcases b3 with ⟨b3, b4, b5, b6⟩ | ⟨b3, b4, b5⟩
  · obtain ⟨v1, v2⟩ := hv b3
    refine jS_for (fun k u => jFx s u (V + 1) 2 ∧ wB u (V + 1) N (gNb g a k v) p) (fun k => [V, a, v, k]) 0 4 (by omega) ⟨jFx.rfl, ⟨b1, b2, .inl ⟨b3, b4, b5, fun i i0 i1 => by rw [gN_lo (by omega)]; exact b6 i i0 i1⟩⟩⟩ (fun k u k0 k1 ⟨e1, e2⟩ => ?_) (fun u ⟨e1, e2⟩ => ?_)
    · show jE (b_X20_patch_2 u V a v k) _
      unfold b_X20_patch_2
      obtain ⟨d1, d2, d3⟩ := e2
      obtain ⟨d3, d4, d5, d6⟩ := d3.resolve_right (by omega)
      rw [if_pos k1, W32_in (z := a + k) (by omega) (by omega), d5, if_pos (by omega), jst_in (by omega) (by omega), Option.bind_some, W8_W8, W32_in (z := 8 * k) (by omega) (by omega), i_shr_p v2 (by omega) (by omega), W32_in (z := k + 1) (by omega) (by omega)]
      have k2 : jFx s (jp u 1001 (V + 1 + 1) (a + k) (sb (v / 2 ^ (8 * k).toNat % 256))) (V + 1) 2 := e1.jp rfl (by omega) (by omega)
      refine jS_end ⟨rfl, k2, by rw [k2.N]; exact b1, b2, .inl ⟨b3, by (repeat (first | rw [jf_neg (by omega)] | rw [jf_pos (by omega)] | rw [ou_neg (by omega)] | rw [ou_pos (by omega)])); exact d4, by (repeat (first | rw [jf_neg (by omega)] | rw [jf_pos (by omega)] | rw [ou_neg (by omega)] | rw [ou_pos (by omega)])); exact d5, fun i i0 i1 => ?_⟩⟩
      by_cases c : i = a + k
      · subst c
        have e : gNb g a (k + 1) v (a + k) = v / 2 ^ (8 * k).toNat % 256 := by
          unfold gNb; rw [if_pos (by omega), show a + k - a = k by omega]; unfold by4
          rw [show (8 * k).toNat = 8 * k.toNat by omega, Int.pow_mul]; rfl
        rw [e]
        exact ⟨by (repeat (first | rw [jf_neg (by omega)] | rw [jf_pos (by omega)] | rw [ou_neg (by omega)] | rw [ou_pos (by omega)])), by omega, by omega⟩
      · have e : gNb g a (k + 1) v i = gNb g a k v i := by
          unfold gNb
          by_cases c1 : a ≤ i ∧ i < a + k
          · rw [if_pos (by omega), if_pos c1]
          · rw [if_neg (by omega), if_neg c1]
        rw [e]
        (repeat (first | rw [jf_neg (by omega)] | rw [jf_pos (by omega)] | rw [ou_neg (by omega)] | rw [ou_pos (by omega)])); exact d6 i i0 i1
    · show jE (b_X20_patch_2 u V a v 4) _
      unfold b_X20_patch_2
      rw [if_neg (by omega)]
      exact jS_inr (jS_end ⟨e1, e2⟩)
  · have ov : ∀ u, jFx s u (V + 1) 2 → jf u 23 (V + 1) 2 = 1 → jf u 23 (V + 1) 1 = N → wB u (V + 1) N (gNb g a 4 v) p := fun u k h1 h2 => ⟨by rw [k.N]; exact b1, b2, .inr ⟨b3, h1, h2⟩⟩
    refine jS_for (fun k u => jFx s u (V + 1) 2 ∧ jf u 23 (V + 1) 2 = 1 ∧ jf u 23 (V + 1) 1 = N) (fun k => [V, a, v, k]) 0 4 (by omega) ⟨jFx.rfl, b4, b5⟩ (fun k u k0 k1 ⟨e1, e2, e3⟩ => ?_) (fun u ⟨e1, e2, e3⟩ => ?_)
    · show jE (b_X20_patch_2 u V a v k) _
      unfold b_X20_patch_2
      rw [if_pos k1, W32_in (z := a + k) (by omega) (by omega), e3]
      by_cases c : a + k < N
      · rw [if_pos c, jst_in (by omega) (by rw [e1.N]; omega), Option.bind_some, W32_in (z := k + 1) (by omega) (by omega)]
        exact jS_end ⟨rfl, e1.jp rfl (by omega) (by omega), by (repeat (first | rw [jf_neg (by omega)] | rw [jf_pos (by omega)] | rw [ou_neg (by omega)] | rw [ou_pos (by omega)])); exact e2, by (repeat (first | rw [jf_neg (by omega)] | rw [jf_pos (by omega)] | rw [ou_neg (by omega)] | rw [ou_pos (by omega)])); exact e3⟩
      · rw [if_neg c]
        exact jS_inr (jS_end ⟨e1, ov u e1 e2 e3⟩)
    · show jE (b_X20_patch_2 u V a v 4) _
      unfold b_X20_patch_2
      rw [if_neg (by omega)]
      exact jS_inr (jS_end ⟨e1, ov u e1 e2 e3⟩)
end jCbyte
