/-! the linker: all bytes are copied, the twin; what both hold then *-/
set_option maxRecDepth 100000
section jLcr
variable {s t u w : jS} {a b k m n o p q v l x c f g i j H C S K X E y0 : Int} {O : Int → Int → Int → Int → Int} {d e z y : Int → Int → Int} {G : Int → Int} {D D' : Int → Prop}
/-- outputs' bytes alone: the twin -/
def tOW (H : Int) (t u : jS) : Prop := jSm t u ∧ ∀ c a k, ¬ (c = 1000 ∧ a = H + 205) → jf u c a k = jf t c a k
theorem tOW.rfl : tOW H t t := ⟨jSm.rfl, fun _ _ _ _ => Eq.refl _⟩
theorem tOW.trans (h : tOW H t u) (g : tOW H u w) : tOW H t w := ⟨h.1.trans g.1, fun c a k q => (g.2 c a k q).trans (h.2 c a k q)⟩
theorem tOW.rw (h : tOW H t u) : tRW H t u := ⟨h.1, fun c a k q => h.2 c a k fun z => q (.inl z)⟩
theorem t_zero : ∃ u, u_X37_copyBytes_2 t H 0 = u_X37_copyBytes_24 u H 0 ∧ tOW H t u ∧ ∀ p, 0 ≤ p → p < 12288 → jf u 1000 (H + 205) p = 0 := by
  rw [eu_X37_copyBytes_2]; unfold du_X37_copyBytes_2
  obtain ⟨u, eu, h1, h2⟩ := loopTo (C := jc2 b_X37_copyBytes_2) (fun p w => tOW H t w ∧ ∀ p', 0 ≤ p' → p' < p → jf w 1000 (H + 205) p' = 0) (fun p => [H, p]) 0 12288 (by decide) (s := t) (F := fun w => u_X37_copyBytes_24 w H 0) ⟨.rfl, fun p' p0 p1 => by omega⟩ (fun p w p0 p1 ⟨j1, j2⟩ => by
    refine ⟨jp w 1000 (H + 205) p 0, ?_, ⟨j1.1.jp, fun c a k q => by rw [jf_neg (by omega)]; exact j1.2 c a k q⟩, fun p' p0' p1' => ?_⟩
    · show b_X37_copyBytes_2 w H p = _
      unfold b_X37_copyBytes_2
      rw [if_pos p1, jst_in p0 p1, Option.bind_some, W32_in (by omega) (by omega)]
    · by_cases c : p' = p
      · rw [c, jf_pos ⟨rfl, rfl, rfl⟩]
      · rw [jf_neg (by omega)]; exact j2 p' p0' (by omega)) (fun w _ => by
    show b_X37_copyBytes_2 w H 12288 = _
    unfold b_X37_copyBytes_2
    rw [if_neg (by decide), eu_X37_copyBytes_22]; unfold du_X37_copyBytes_22; rfl)
  exact ⟨u, eu, h1, h2⟩
/-- where an output's bytes are with the twin -/
theorem LZD.spotT (h : LZD C H S O s t e d z G) (o0 : 0 ≤ o) (o1 : o < 3) (p0 : -1000000 ≤ p) (p1 : p ≤ 100000000) : m_X37_byteSpot t H o p = some (4096 * o + (p - ouB d o)) := by
  have lo := ouB_lo h.1 o0 (by omega)
  rw [em_X37_byteSpot]; unfold dm_X37_byteSpot
  rw [(h.outT o0 (by omega)).1, Option.bind_some, W32_in (z := 4096 * o) (by omega) (by omega), W32_in (z := 4096 * o + p) (by omega) (by omega), W32_in (by omega) (by omega)]
  exact congrArg some (by omega)
/-- what a plain piece left with the twin -/
def tpK (H S : Int) (O : Int → Int → Int → Int → Int) (t : jS) (d z : Int → Int → Int) (k : Int) : Prop := d 5 k = 0 → ∀ x, 0 ≤ x → x < 6 → sIn S x → d 11 k = 4 * nIn S x.toNat + d 1 (d 11 k) → ∀ i, 0 ≤ i → i < z 1 k → tBy t H (d 1 (d 11 k)) (plK d k - ouB d (d 1 (d 11 k)) + i) = O x 0 (d 1 (d 11 k)) (z 0 k + i)
def tpJ (H S : Int) (O : Int → Int → Int → Int → Int) (d z : Int → Int → Int) (D : Int → Prop) (t : jS) : Prop := (∀ k, 0 ≤ k → k < d 0 1 → D k → d 1 (d 11 k) < 3 → tpK H S O t d z k) ∧ ∀ o p, 0 ≤ o → o < 3 → 0 ≤ p → p < 4096 → (∀ k, 0 ≤ k → k < d 0 1 → D k → d 5 k = 0 → d 1 (d 11 k) = o → ¬ inO d o k p) → tBy t H o p = 0
theorem tpJ.iff (h : tpJ H S O d z D t) (hD : ∀ k, 0 ≤ k → k < d 0 1 → d 1 (d 11 k) < 3 → (D' k ↔ D k)) : tpJ H S O d z D' t := ⟨fun k k0 k1 kD k3 => h.1 k k0 k1 ((hD k k0 k1 k3).mp kD) k3, fun o p o0 o1 p0 p1 q => h.2 o p o0 o1 p0 p1 fun k k0 k1 kD k5 ko => q k k0 k1 ((hD k k0 k1 (by omega)).mpr kD) k5 ko⟩
theorem tpJ.st (h : tpJ H S O d z D t) (v : vLy d) (hs : ∀ l, 0 ≤ l → l < d 0 1 → d 1 (d 11 l) < 3 → 0 ≤ plK d l - ouB d (d 1 (d 11 l)) ∧ plK d l - ouB d (d 1 (d 11 l)) + szK d l (plK d l) ≤ 4096) (hI : ∀ l, 0 ≤ l → l < d 0 1 → pcI O d z l) (k0 : 0 ≤ k) (k1 : k < d 0 1) (ho : d 1 (d 11 k) = o) (o0 : 0 ≤ o) (o1 : o < 3) (hk : tpK H S O u d z k) (hF : ∀ o' p', 0 ≤ o' → o' < 3 → 0 ≤ p' → p' < 4096 → ¬ (o' = o ∧ plK d k - ouB d o ≤ p' ∧ p' < plK d k - ouB d o + szK d k (plK d k)) → tBy u H o' p' = tBy t H o' p') (hN : ¬ d 5 k = 0 → u = t) : tpJ H S O d z (fun x => D x ∨ x = k) u := by
  refine ⟨fun l l0 l1 lD l3 => ?_, fun o' p' o0' o1' p0 p1 q => ?_⟩
  · by_cases c : l = k
    · rw [c]; exact hk
    · have hl : D l := by rcases lD with q | q; exact q; exact absurd q c
      intro h5 x x0 x1 hx hp i i0 i1
      obtain ⟨b1, b2⟩ := hs l l0 l1 l3
      have bo := (v.2.2.2.2.1 _ (v.2.2.2.2.2.2.1 l l0 l1).2.1.1 (v.2.2.2.2.2.2.1 l l0 l1).2.1.2.1).1.1
      have sz : szK d l (plK d l) = z 1 l := by
        unfold szK; rw [if_pos h5]
        rcases (hI l l0 l1).2 with ⟨-, -, q⟩ | ⟨-, i, -, -, -, -, -, q, -⟩
        · exact q
        · rw [h5] at q; unfold srT at q
          split at q
          · omega
          split at q
          · omega
          split at q <;> omega
      rw [hF _ _ bo l3 (by omega) (by omega) fun q => by
        obtain ⟨q1, q2, q3⟩ := q
        rw [q1] at q2 q3
        by_cases cl : l < k
        · have := pl_lt v l0 cl k1 (by omega)
          omega
        · have := pl_lt v k0 (show k < l by omega) l1 (by omega)
          omega]
      exact h.1 l l0 l1 hl l3 h5 x x0 x1 hx hp i i0 i1
  · by_cases c5 : d 5 k = 0
    · have hq : ¬ (o' = o ∧ plK d k - ouB d o ≤ p' ∧ p' < plK d k - ouB d o + szK d k (plK d k)) := fun z => by
        obtain ⟨z1, z2, z3⟩ := z
        exact q k k0 k1 (.inr rfl) c5 (by omega) (by rw [z1]; constructor <;> omega)
      rw [hF o' p' o0' o1' p0 p1 hq]
      exact h.2 o' p' o0' o1' p0 p1 fun l l0 l1 lD l5 lo => q l l0 l1 (.inl lD) l5 lo
    · rw [hN c5]
      exact h.2 o' p' o0' o1' p0 p1 fun l l0 l1 lD l5 lo => q l l0 l1 (.inl lD) l5 lo
theorem pcI.sz (h : pcI O d z k) (h5 : d 5 k = 0) : szK d k a = z 1 k := by
  unfold szK; rw [if_pos h5]
  rcases h.2 with ⟨-, -, q⟩ | ⟨-, i, -, -, -, -, -, q, -⟩
  · exact q
  · rw [h5] at q; unfold srT at q
    split at q
    · omega
    split at q
    · omega
    split at q <;> omega
theorem t_copyK (h : LZD C H S O s t e d z G) (x0 : 0 ≤ x) (x1 : x < 6) (hS : sIn S x) (j0 : 0 ≤ j) (j1 : j < 3) (hk : d 3 (4 * nIn S x.toNat + j) ≤ k ∧ k < d 4 (4 * nIn S x.toNat + j)) : ∃ u, b_X37_copyBytes_64 t H x j (4 * nIn S x.toNat + j) k = some (.inl (u, [H, x, j, 4 * nIn S x.toNat + j, k + 1])) ∧ tOW H t u ∧ (∀ o p, 0 ≤ o → o < 3 → 0 ≤ p → p < 4096 → ¬ (o = j ∧ plK d k - ouB d j ≤ p ∧ p < plK d k - ouB d j + szK d k (plK d k)) → tBy u H o p = tBy t H o p) ∧ (d 5 k = 0 → ∀ i, 0 ≤ i → i < z 1 k → tBy u H j (plK d k - ouB d j + i) = O x 0 j (z 0 k + i)) ∧ (¬ d 5 k = 0 → u = t) := by
  obtain ⟨v, -, ⟨t1, t2⟩, ⟨-, p2⟩, ⟨r1, -, -⟩, ⟨hk1, -⟩, -⟩ := id h
  obtain ⟨⟨q1, q2, q3⟩, q4⟩ := r1.1 x j x0 x1 hS j0 (by omega)
  have nx := nIn_lo (S := S) x.toNat
  have v1 := v.2.1
  have v0 := v.1
  obtain ⟨-, -, ⟨d1, d2, d3⟩, -⟩ := v.2.2.2.2.1 _ (by omega) q4
  have k0 : 0 ≤ k := by omega
  have k1 : k < d 0 1 := by omega
  have e11 := v.pt (by omega) q4 hk.1 hk.2
  have eo : d 1 (d 11 k) = j := by rw [e11]; exact q2
  obtain ⟨s0, s1, s2⟩ := h.spot k0 k1 (by rw [eo]; exact j1)
  rw [eo] at s0 s2
  obtain ⟨e200, e201⟩ := p2.2.1 _ (by omega) q4
  have J200 : jlt t 1000 (H + 200) 32 (4 * nIn S x.toNat + j) = some (d 3 (4 * nIn S x.toNat + j)) := by rw [jlt_in (by omega) (by omega), e200]
  have J201 : jlt t 1000 (H + 201) 32 (4 * nIn S x.toNat + j) = some (d 4 (4 * nIn S x.toNat + j) - d 3 (4 * nIn S x.toNat + j)) := by rw [jlt_in (by omega) (by omega), e201]
  obtain ⟨e197, e198, e199⟩ := p2.1 k k0 k1
  have hI := r1.2.2 k k0 k1
  have z2 := hI.z2
  have J199 : jlt t 1000 (H + 199) 256 k = some (z 2 k) := by rw [jlt_in k0 (by omega), e199]
  have W1 : W32 (d 3 (4 * nIn S x.toNat + j) + (d 4 (4 * nIn S x.toNat + j) - d 3 (4 * nIn S x.toNat + j))) = d 4 (4 * nIn S x.toNat + j) := by rw [W32_in (by omega) (by omega)]; omega
  have e171 : ∀ w, u_X37_copyBytes_171 w H x j (4 * nIn S x.toNat + j) k = some (.inl (w, [H, x, j, 4 * nIn S x.toNat + j, k + 1])) := fun w => by
    rw [eu_X37_copyBytes_171]; unfold du_X37_copyBytes_171
    rw [W32_in (by omega) (by omega)]
  unfold b_X37_copyBytes_64
  rw [J200, J201, Option.bind_some, Option.bind_some, W1, if_pos hk.2, J199, Option.bind_some]
  by_cases c5 : d 5 k = 0
  rotate_left
  · rw [if_neg (fun q => c5 (z2.mp q)), e171]
    exact ⟨t, rfl, .rfl, fun _ _ _ _ _ _ _ => rfl, fun q => absurd q c5, fun _ => rfl⟩
  have sz := hI.sz (a := plK d k) c5
  have l1 := plK_lo v k0 k1
  have zz := hI.1
  have J20 : jlt t 1000 (H + 93 + 20) 256 k = some (plK d k) := by rw [jlt_in k0 (by omega), (t2.1 k k0 k1).1]
  obtain ⟨-, z3, z4, -⟩ := hk1.2.2.1 x x0 x1 hS
  have hl : ∀ i', 0 ≤ i' → i' < z 1 k → z 0 k + i' < O x 1 j 0 := fun i' i0 i1 => by
    by_cases cl : k + 1 < d 4 (4 * nIn S x.toNat + j)
    · have := q3.le (i := k + 1) (j := d 4 (4 * nIn S x.toNat + j) - 1) (by omega) (by omega) (by omega)
      have st := (q3.2.2.1 k hk.1 cl).2
      have en := q3.2.2.2
      have z1p := (r1.2.2 (d 4 (4 * nIn S x.toNat + j) - 1) (by omega) (by omega)).1.2.1
      omega
    · have := q3.2.2.2
      rw [show d 4 (4 * nIn S x.toNat + j) - 1 = k by omega] at this
      omega
  have szU := (z4.1 j j0 (by omega)).2.1
  rw [if_neg (by omega)] at szU
  rw [if_pos (z2.mpr c5), J20, Option.bind_some, h.spotT j0 j1 (by omega) (by omega), Option.bind_some, eu_X37_copyBytes_116]; unfold du_X37_copyBytes_116
  obtain ⟨u, eu, h1, h2, h3⟩ := loopTo (C := jc7 b_X37_copyBytes_116) (fun n u => tOW H t u ∧ (∀ o p, 0 ≤ o → o < 3 → 0 ≤ p → p < 4096 → ¬ (o = j ∧ plK d k - ouB d j ≤ p ∧ p < plK d k - ouB d j + n) → tBy u H o p = tBy t H o p) ∧ ∀ i, 0 ≤ i → i < n → tBy u H j (plK d k - ouB d j + i) = O x 0 j (z 0 k + i)) (fun n => [H, x, j, 4 * nIn S x.toNat + j, k, 4096 * j + (plK d k - ouB d j), n]) 0 (z 1 k) zz.2.1 (s := t) (F := fun u => some (.inl (u, [H, x, j, 4 * nIn S x.toNat + j, k + 1]))) ⟨.rfl, fun _ _ _ _ _ _ _ => rfl, fun i i0 i1 => by omega⟩ (fun n u n0 n1 ⟨j1', j2', j3'⟩ => by
    have J198 : jlt u 1000 (H + 198) 256 k = some (z 1 k) := by rw [jlt_in k0 (by omega), j1'.2 _ _ _ (by omega), e198]
    have J197 : jlt u 1000 (H + 197) 256 k = some (z 0 k) := by rw [jlt_in k0 (by omega), j1'.2 _ _ _ (by omega), e197]
    have J170 : jlt u 1000 (H + 170) 36864 (6144 * x + 2048 * j + z 0 k + n) = some (O x 0 j (z 0 k + n)) := by
      have hh := hl n n0 n1
      rw [jlt_in (by omega) (by omega), j1'.2 _ _ _ (by omega), show 6144 * x + 2048 * j + z 0 k + n = 6144 * x + (2048 * j + (z 0 k + n)) by omega, z3.2.1 j _ j0 j1 (by omega) hh]
    refine ⟨jp u 1000 (H + 205) (4096 * j + (plK d k - ouB d j) + n) (O x 0 j (z 0 k + n)), ?_, ⟨j1'.1.jp, fun c a k' q => by rw [jf_neg (by omega)]; exact j1'.2 c a k' q⟩, fun o p o0 o1 p0 p1 q => ?_, fun i i0 i1 => ?_⟩
    · show b_X37_copyBytes_116 u H x j (4 * nIn S x.toNat + j) k (4096 * j + (plK d k - ouB d j)) n = _
      have hh := hl n n0 n1
      unfold b_X37_copyBytes_116
      rw [J198, Option.bind_some, if_pos n1, J197, Option.bind_some, W32_in (z := 6144 * x) (by omega) (by omega), W32_in (z := 2048 * j) (by omega) (by omega), W32_in (z := 6144 * x + 2048 * j) (by omega) (by omega), W32_in (z := 6144 * x + 2048 * j + z 0 k) (by omega) (by omega), W32_in (z := 6144 * x + 2048 * j + z 0 k + n) (by omega) (by omega), J170, Option.bind_some, W32_in (z := 4096 * j + (plK d k - ouB d j) + n) (by omega) (by omega), jst_in (by omega) (by omega), Option.bind_some, W32_in (z := n + 1) (by omega) (by omega)]
    · show jf _ 1000 _ _ = _
      rw [jf_neg (by omega)]; exact j2' o p o0 o1 p0 p1 (by omega)
    · show jf _ 1000 _ _ = _
      by_cases c : i = n
      · rw [c, show 4096 * j + (plK d k - ouB d j + n) = 4096 * j + (plK d k - ouB d j) + n by omega, jf_pos ⟨rfl, rfl, rfl⟩]
      · rw [jf_neg (by omega)]; exact j3' i i0 (by omega)) (fun u ⟨j1', _⟩ => by
    show b_X37_copyBytes_116 u H x j (4 * nIn S x.toNat + j) k (4096 * j + (plK d k - ouB d j)) (z 1 k) = _
    unfold b_X37_copyBytes_116
    have J198 : jlt u 1000 (H + 198) 256 k = some (z 1 k) := by rw [jlt_in k0 (by omega), j1'.2 _ _ _ (by omega), e198]
    rw [J198, Option.bind_some, if_neg (by omega), e171])
  exact ⟨u, eu, h1, fun o p o0 o1 p0 p1 q => h2 o p o0 o1 p0 p1 (by rw [← sz]; exact q), fun _ => h3, fun q => absurd c5 q⟩
theorem t_copyAll (h : LZD C H S O s t e d z G) (hK : ∀ a, C ≤ a → a < C + 15464 → ¬ (70 ≤ jK s a ∧ jK s a ≤ 77)) : ∃ u, m_X37_copyBytes t H = some (u, 0) ∧ tOW H t u ∧ tpJ H S O d z (fun k => d 11 k < 4 * nIn S 6) u := by
  have v := h.1
  have v0 := v.1
  have v1 := v.2.1
  obtain ⟨-, -, -, ⟨-, p2⟩, ⟨r1, -, -⟩, ⟨hk1, -⟩, -⟩ := id h
  rw [em_X37_copyBytes]; unfold dm_X37_copyBytes
  obtain ⟨t0, e0, w0, z0⟩ := t_zero (t := t) (H := H)
  rw [e0, eu_X37_copyBytes_24]; unfold du_X37_copyBytes_24
  have hs : ∀ l, 0 ≤ l → l < d 0 1 → d 1 (d 11 l) < 3 → 0 ≤ plK d l - ouB d (d 1 (d 11 l)) ∧ plK d l - ouB d (d 1 (d 11 l)) + szK d l (plK d l) ≤ 4096 := fun l l0 l1 l3 => by
    obtain ⟨a1, a2, a3⟩ := h.spot l0 l1 l3
    exact ⟨a1, a3⟩
  obtain ⟨u, eu, h1, h2⟩ := loopTo (C := jc2 b_X37_copyBytes_24) (fun x w => tOW H t w ∧ tpJ H S O d z (fun k => d 11 k < 4 * nIn S x.toNat) w) (fun x => [H, x]) 0 6 (by decide) (s := t0) (F := fun w => some (w, 0)) ⟨w0, fun k k0 k1 q => by
      have := (v.2.2.2.2.2.2.1 k k0 k1).2.1
      have : nIn S (0 : Int).toNat = 0 := rfl
      omega, fun o p o0 o1 p0 p1 _ => z0 _ (by omega) (by omega)⟩ (fun x w x0 x1 ⟨j1, j2⟩ => by
    have nx := nIn_lo (S := S) x.toNat
    have n6 := nIn_lo (S := S) 6
    have hz : LZD C H S O s w e d z G := h.zw hK cZW.rfl j1.rw.zw
    have en := nIn_s (S := S) x0
    show ∃ w', b_X37_copyBytes_24 w H x = some (.inl (w', [H, x + 1])) ∧ _
    unfold b_X37_copyBytes_24
    rw [if_pos x1, eu_X37_copyBytes_32]; unfold du_X37_copyBytes_32
    have e183 : ∀ w, u_X37_copyBytes_183 w H x = some (.inl (w, [H, x + 1])) := fun w => by
      rw [eu_X37_copyBytes_183]; unfold du_X37_copyBytes_183
      rw [W32_in (by omega) (by omega)]
    by_cases hS : sIn S x
    rotate_left
    · have body : jc3 b_X37_copyBytes_32 [H, x, 0] w = jinr (some (.inl (w, [H, x + 1]))) := by
        show b_X37_copyBytes_32 w H x 0 = _
        unfold b_X37_copyBytes_32
        rw [if_pos (by decide), t_isIn hz.2.2.2.2.2.1.1, if_neg hS, Option.bind_some, if_pos rfl, e183]
      rw [jlpW_r body]
      rw [if_neg hS, Int.add_zero] at en
      exact ⟨w, rfl, j1, by rw [en]; exact j2⟩
    rw [if_pos hS] at en
    obtain ⟨w', ew, g1, g2⟩ := loopTo (C := jc3 b_X37_copyBytes_32) (fun j u => tOW H t u ∧ tpJ H S O d z (fun k => d 11 k < 4 * nIn S x.toNat + j) u) (fun j => [H, x, j]) 0 3 (by decide) (s := w) (F := fun u => some (.inl (u, [H, x + 1]))) ⟨j1, by simpa using j2⟩ (fun j u jj0 jj1 ⟨k1, k2⟩ => by
      obtain ⟨⟨q1, q2, q3⟩, q4⟩ := r1.1 x j x0 x1 hS jj0 (by omega)
      obtain ⟨-, -, ⟨d1, d2, d3⟩, -⟩ := v.2.2.2.2.1 _ (by omega) q4
      have hz' : LZD C H S O s u e d z G := h.zw hK cZW.rfl k1.rw.zw
      show ∃ w', b_X37_copyBytes_32 u H x j = some (.inl (w', [H, x, j + 1])) ∧ _
      unfold b_X37_copyBytes_32
      have J202 : jlt u 1000 (H + 202) 24 (4 * x + j) = some (4 * nIn S x.toNat + j) := by rw [jlt_in (by omega) (by omega), k1.2 _ _ _ (by omega), q1]
      have J200 : jlt u 1000 (H + 200) 32 (4 * nIn S x.toNat + j) = some (d 3 (4 * nIn S x.toNat + j)) := by rw [jlt_in (by omega) (by omega), k1.2 _ _ _ (by omega), (p2.2.1 _ (by omega) q4).1]
      rw [if_pos jj1, t_isIn hz'.2.2.2.2.2.1.1, if_pos hS, Option.bind_some, if_neg n10, W32_in (z := 4 * x) (by omega) (by omega), W32_in (z := 4 * x + j) (by omega) (by omega), J202, Option.bind_some, J200, Option.bind_some, eu_X37_copyBytes_64]; unfold du_X37_copyBytes_64
      obtain ⟨w', ew, g1, g2⟩ := loopTo (C := jc5 b_X37_copyBytes_64) (fun k u => tOW H t u ∧ tpJ H S O d z (fun l => d 11 l < 4 * nIn S x.toNat + j ∨ d 11 l = 4 * nIn S x.toNat + j ∧ l < k) u) (fun k => [H, x, j, 4 * nIn S x.toNat + j, k]) (d 3 (4 * nIn S x.toNat + j)) (d 4 (4 * nIn S x.toNat + j)) d2 (s := u) (F := fun u => some (.inl (u, [H, x, j + 1]))) ⟨k1, k2.iff fun k k0 k1 _ => ⟨fun q => by
        rcases q with q | q
        · exact q
        · have := (v.2.2.2.2.2.2.1 k k0 k1).2.1
          rw [q.1] at this; omega, fun q => .inl q⟩⟩ (fun k u kk0 kk1 ⟨m1, m2⟩ => by
        have hz2 : LZD C H S O s u e d z G := h.zw hK cZW.rfl m1.rw.zw
        obtain ⟨w', ew, f1, f2, f3, f4⟩ := t_copyK hz2 x0 x1 hS jj0 jj1 ⟨kk0, kk1⟩
        have k00 : 0 ≤ k := by omega
        have k01 : k < d 0 1 := by omega
        have e11 := v.pt (by omega) q4 kk0 kk1
        have eo : d 1 (d 11 k) = j := by rw [e11]; exact q2
        refine ⟨w', ew, m1.trans f1, (m2.st v hs r1.2.2 k00 k01 eo jj0 jj1 (fun h5 x' x0' x1' hx' hp => ?_) f2 f4).iff fun l l0 l1 _ => ⟨fun q => ?_, fun q => ?_⟩⟩
        · have : x' = x := nIn_inj hx' hS x0' x0 (by omega)
          rw [this, eo]; exact f3 h5
        · by_cases c : l = k
          · exact .inr c
          · exact .inl (by omega)
        · rcases q with q | q
          · omega
          · rw [q]; exact .inr ⟨e11, by omega⟩) (fun u ⟨m1, m2⟩ => by
        show b_X37_copyBytes_64 u H x j (4 * nIn S x.toNat + j) (d 4 (4 * nIn S x.toNat + j)) = _
        unfold b_X37_copyBytes_64
        have K200 : jlt u 1000 (H + 200) 32 (4 * nIn S x.toNat + j) = some (d 3 (4 * nIn S x.toNat + j)) := by rw [jlt_in (by omega) (by omega), m1.2 _ _ _ (by omega), (p2.2.1 _ (by omega) q4).1]
        have K201 : jlt u 1000 (H + 201) 32 (4 * nIn S x.toNat + j) = some (d 4 (4 * nIn S x.toNat + j) - d 3 (4 * nIn S x.toNat + j)) := by rw [jlt_in (by omega) (by omega), m1.2 _ _ _ (by omega), (p2.2.1 _ (by omega) q4).2]
        rw [K200, K201, Option.bind_some, Option.bind_some, W32_in (by omega) (by omega), if_neg (by omega), eu_X37_copyBytes_177]; unfold du_X37_copyBytes_177
        rw [W32_in (by omega) (by omega)])
      refine ⟨w', ew, g1, g2.iff fun l l0 l1 _ => ⟨fun q => ?_, fun q => ?_⟩⟩
      · by_cases c : d 11 l = 4 * nIn S x.toNat + j
        · have := (v.2.2.2.2.2.2.1 l l0 l1).2.1
          rw [c] at this
          exact .inr ⟨c, by omega⟩
        · exact .inl (by omega)
      · omega) (fun u _ => by
      show b_X37_copyBytes_32 u H x 3 = _
      unfold b_X37_copyBytes_32
      rw [if_neg (by decide), e183])
    refine ⟨w', ew, g1, g2.iff fun l l0 l1 l3 => ⟨fun q => ?_, fun q => by omega⟩⟩
    by_cases c : d 11 l = 4 * nIn S x.toNat + 3
    · obtain ⟨⟨-, q2, -⟩, -⟩ := r1.1 x 3 x0 x1 hS (by decide) (by decide)
      rw [c] at l3; omega
    · omega) (fun w _ => by
    show b_X37_copyBytes_24 w H 6 = _
    unfold b_X37_copyBytes_24
    rw [if_neg (by decide)])
  exact ⟨u, eu, h1, h2⟩
/-- after copying -/
theorem out_0 (v : vLy d) (hs : ∀ l, 0 ≤ l → l < d 0 1 → d 1 (d 11 l) < 3 → 0 ≤ plK d l - ouB d (d 1 (d 11 l)) ∧ plK d l - ouB d (d 1 (d 11 l)) + szK d l (plK d l) ≤ 4096) (hI : ∀ l, 0 ≤ l → l < d 0 1 → pcI O d z l) (hU : ∀ k, 0 ≤ k → k < d 0 1 → pcU S O e d z G k) (hR : ∀ x j, 0 ≤ x → x < 6 → sIn S x → 0 ≤ j → j < 4 → d 1 (4 * nIn S x.toNat + j) = j ∧ pCt d z (4 * nIn S x.toNat + j) (O x 1 j 0)) (hb : ∀ x j i, 0 ≤ x → x < 6 → sIn S x → 0 ≤ j → j < 3 → 0 ≤ i → i < O x 1 j 0 → 0 ≤ O x 0 j i ∧ O x 0 j i < 256) (hc : cpJ C S O d z (fun k => d 11 k < 4 * nIn S 6) s) (ht : tpJ H S O d z (fun k => d 11 k < 4 * nIn S 6) t) : outI C H O s t d z 0 := by
  have un : ∀ k, 0 ≤ k → k < d 0 1 → d 11 k < 4 * nIn S 6 → d 1 (d 11 k) < 3 → ∃ x, (0 ≤ x ∧ x < 6) ∧ sIn S x ∧ d 11 k = 4 * nIn S x.toNat + d 1 (d 11 k) ∧ ∀ i, 0 ≤ i → i < z 1 k → z 0 k + i < O x 1 (d 1 (d 11 k)) 0 := fun k k0 k1 kD k3 => by
    obtain ⟨-, ⟨g1, g2, g3, g4⟩, -⟩ := v.2.2.2.2.2.2.1 k k0 k1
    obtain ⟨x, ⟨x0, x1⟩, hS, ex⟩ := nIn_ex (S := S) 6 (d 11 k / 4) (by omega) (by omega)
    have eq : d 11 k = 4 * nIn S x.toNat + d 11 k % 4 := by omega
    obtain ⟨q2, q3⟩ := hR x (d 11 k % 4) x0 (by omega) hS (by omega) (by omega)
    rw [← eq] at q2 q3
    refine ⟨x, ⟨x0, by omega⟩, hS, by omega, fun i i0 i1 => ?_⟩
    rw [q2]
    by_cases cl : k + 1 < d 4 (d 11 k)
    · have := q3.le (i := k + 1) (j := d 4 (d 11 k) - 1) (by omega) (by omega) (by omega)
      have st := (q3.2.2.1 k g3 cl).2
      have en := q3.2.2.2
      have z1p := (hI (d 4 (d 11 k) - 1) (by omega) (by have := (v.2.2.2.2.1 _ g1 g2).2.2.1; omega)).1.2.1
      omega
    · have := q3.2.2.2
      rw [show d 4 (d 11 k) - 1 = k by omega] at this
      omega
  have np : ∀ k, 0 ≤ k → k < d 0 1 → ¬ d 5 k = 0 → (0 ≤ z 3 k ∧ z 3 k < 6) ∧ d 1 (d 11 k) = 0 ∧ d 11 k = 4 * nIn S (z 3 k).toNat ∧ sIn S (z 3 k) ∧ d 11 k < 4 * nIn S 6 := fun k k0 k1 k5 => by
    obtain ⟨u1, u2, u3⟩ := (hU k k0 k1).1 k5
    rcases (hI k k0 k1).2 with ⟨-, q, -⟩ | ⟨q, -⟩
    · exact absurd q k5
    · have := nIn_lt u3 q.1 (x := 6) q.2
      have e6 : nIn S (6 : Int).toNat = nIn S 6 := rfl
      exact ⟨q, u1, u2, u3, by omega⟩
  refine ⟨fun o p o0 o1 p0 p1 hp => ?_, fun k k0 k1 k4 _ i i0 i1 => ?_, fun k k0 k1 km _ ks i i0 i1 => ?_⟩
  · by_cases c : ∃ k, (0 ≤ k ∧ k < d 0 1) ∧ d 11 k < 4 * nIn S 6 ∧ d 5 k = 0 ∧ d 1 (d 11 k) = o ∧ inO d o k p
    · obtain ⟨k, ⟨k0, k1⟩, kD, k5, ko, ki⟩ := c
      obtain ⟨x, ⟨x0, x1⟩, hS, ep, hl⟩ := un k k0 k1 kD (by omega)
      have sz := (hI k k0 k1).sz (a := plK d k) k5
      have c1 := (hc.1 k k0 k1 kD (by omega)).2 (by omega) sz x x0 x1 hS ep (ouB d o + p - plK d k) (by omega) (by omega)
      have c2 := ht.1 k k0 k1 kD (by omega) k5 x x0 x1 hS ep (ouB d o + p - plK d k) (by omega) (by omega)
      have bb := hb x o (z 0 k + (ouB d o + p - plK d k)) x0 x1 hS o0 o1 (by have := (hI k k0 k1).1; omega) (by have := hl (ouB d o + p - plK d k) (by omega) (by omega); rw [ko] at this; exact this)
      rw [ko, show plK d k - ouB d o + (ouB d o + p - plK d k) = p by omega] at c1 c2
      exact ⟨_, bb, c1, c2⟩
    · refine ⟨0, by decide, ?_, ?_⟩
      · rw [hc.2 o p o0 o1 p0 p1 fun k k0 k1 kD ko ki => ?_]; rfl
        by_cases k5 : d 5 k = 0
        · exact c ⟨k, ⟨k0, k1⟩, kD, k5, ko, ki⟩
        · have := (np k k0 k1 k5).2.1
          have e0 : o = 0 := by omega
          rw [e0] at ki
          rcases (hI k k0 k1).2 with ⟨-, q, -⟩ | ⟨q, i, ⟨i0, -⟩, e2, -⟩
          · exact k5 q
          · exact hp ⟨e0, k, ⟨k0, k1⟩, k5, by omega, ki⟩
      · exact ht.2 o p o0 o1 p0 p1 fun k k0 k1 kD k5 ko ki => c ⟨k, ⟨k0, k1⟩, kD, k5, ko, ki⟩
  · obtain ⟨-, n2, -, -, n5⟩ := np k k0 k1 (by omega)
    have := (hc.1 k k0 k1 n5 (by omega)).1 k4 i i0 i1
    rw [n2] at this; exact this
  · have km' := km
    unfold mvK at km'
    obtain ⟨n1, n2, n3, n4, n5⟩ := np k k0 k1 (by omega)
    have := (hc.1 k k0 k1 n5 (by omega)).2 (by omega) ks (z 3 k) n1.1 n1.2 n4 (by omega) i i0 i1
    rw [n2] at this; exact this
end jLcr
