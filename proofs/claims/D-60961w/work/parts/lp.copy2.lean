/-! the linker: all bytes are copied, the component *-/
set_option maxRecDepth 100000
section jLcq
variable {s t u w : jS} {a b k m n o p q v l x c f g i j H C S K X E y0 : Int} {O : Int → Int → Int → Int → Int} {d e z y : Int → Int → Int} {G : Int → Int} {D D' : Int → Prop}
theorem nIn_inj (hv : sIn S v) (hx : sIn S x) (v0 : 0 ≤ v) (x0 : 0 ≤ x) (h : nIn S v.toNat = nIn S x.toNat) : v = x := by
  by_cases c : v < x
  · have := nIn_lt hv v0 c; omega
  · by_cases c' : x < v
    · have := nIn_lt hx x0 c'; omega
    · omega
/-- bytes are wiped -/
theorem c_zero : ∃ u, u_X35_link_58 s (C + 4275) E y0 0 = u_X35_link_98 u (C + 4275) E y0 ∧ cOW C s u ∧ ∀ o p, 0 ≤ o → o < 3 → 0 ≤ p → p < 4096 → cBy u C o p = 0 := by
  have w80 : W8 0 = 0 := by rw [W8_sb]; decide
  rw [eu_X35_link_58]; unfold du_X35_link_58
  obtain ⟨u, eu, h1, h2⟩ := loopTo (C := jc4 b_X35_link_58) (fun o w => cOW C s w ∧ ∀ o' p, 0 ≤ o' → o' < o → 0 ≤ p → p < 4096 → cBy w C o' p = 0) (fun o => [C + 4275, E, y0, o]) 0 3 (by decide) (s := s) (F := fun w => u_X35_link_98 w (C + 4275) E y0) ⟨.rfl, fun o' p o0 o1 => by omega⟩ (fun o w o0 o1 ⟨j1, j2⟩ => by
    show ∃ w', b_X35_link_58 w (C + 4275) E y0 o = some (.inl (w', [C + 4275, E, y0, o + 1])) ∧ _
    unfold b_X35_link_58
    rw [if_pos o1, eu_X35_link_67]; unfold du_X35_link_67
    obtain ⟨w', ew, g1, g2, g3⟩ := loopTo (C := jc5 b_X35_link_67) (fun p u => cOW C w u ∧ (∀ o' p', ¬ o' = o → cBy u C o' p' = cBy w C o' p') ∧ ∀ p', 0 ≤ p' → p' < p → cBy u C o p' = 0) (fun p => [C + 4275, E, y0, o, p]) 0 4096 (by decide) (s := w) (F := fun u => some (.inl (u, [C + 4275, E, y0, o + 1]))) ⟨.rfl, fun _ _ _ => rfl, fun p' p0 p1 => by omega⟩ (fun p u p0 p1 ⟨k1, k2, k3⟩ => by
      refine ⟨jp u 1001 (C + 4275 + 34 + o) p 0, ?_, ⟨k1.1.jp, fun c a k q => by rw [jf_neg (by omega)]; exact k1.2 c a k q⟩, fun o' p' q => ?_, fun p' p0' p1' => ?_⟩
      · show b_X35_link_67 u (C + 4275) E y0 o p = _
        unfold b_X35_link_67
        rw [if_pos p1, jix_in o0 o1, Option.bind_some, show C + 4275 + 33 + 1 + 1 * o = C + 4275 + 34 + o by omega, jst_in p0 p1, Option.bind_some, w80, W32_in (by omega) (by omega)]
      · show jf _ 1001 _ _ = _
        rw [jf_neg (by omega)]; exact k2 o' p' q
      · show jf _ 1001 _ _ = _
        by_cases c : p' = p
        · rw [c, jf_pos ⟨rfl, rfl, rfl⟩]
        · rw [jf_neg (by omega)]; exact k3 p' p0' (by omega)) (fun u _ => by
      show b_X35_link_67 u (C + 4275) E y0 o 4096 = _
      unfold b_X35_link_67
      rw [if_neg (by decide), eu_X35_link_92]; unfold du_X35_link_92
      rw [W32_in (by omega) (by omega)])
    refine ⟨w', ew, j1.trans g1, fun o' p o0' o1' p0 p1 => ?_⟩
    by_cases c : o' = o
    · rw [c]; exact g3 p p0 p1
    · rw [g2 o' p c]; exact j2 o' p o0' (by omega) p0 p1) (fun w _ => by
    show b_X35_link_58 w (C + 4275) E y0 3 = _
    unfold b_X35_link_58
    rw [if_neg (by decide)])
  exact ⟨u, eu, h1, h2⟩
/-- what a piece left with the component -/
def cpK (C S : Int) (O : Int → Int → Int → Int → Int) (s : jS) (d z : Int → Int → Int) (k : Int) : Prop := (d 5 k = 4 → ∀ i, 0 ≤ i → i < szK d k (plK d k) → cBy s C (d 1 (d 11 k)) (plK d k - ouB d (d 1 (d 11 k)) + i) = sb (nopB (szK d k (plK d k)) i)) ∧ (¬ d 5 k = 4 → szK d k (plK d k) = z 1 k → ∀ x, 0 ≤ x → x < 6 → sIn S x → d 11 k = 4 * nIn S x.toNat + d 1 (d 11 k) → ∀ i, 0 ≤ i → i < z 1 k → cBy s C (d 1 (d 11 k)) (plK d k - ouB d (d 1 (d 11 k)) + i) = sb (O x 0 (d 1 (d 11 k)) (z 0 k + i)))
abbrev inO (d : Int → Int → Int) (o k p : Int) : Prop := plK d k ≤ ouB d o + p ∧ ouB d o + p < plK d k + szK d k (plK d k)
def cpJ (C S : Int) (O : Int → Int → Int → Int → Int) (d z : Int → Int → Int) (D : Int → Prop) (s : jS) : Prop := (∀ k, 0 ≤ k → k < d 0 1 → D k → d 1 (d 11 k) < 3 → cpK C S O s d z k) ∧ ∀ o p, 0 ≤ o → o < 3 → 0 ≤ p → p < 4096 → (∀ k, 0 ≤ k → k < d 0 1 → D k → d 1 (d 11 k) = o → ¬ inO d o k p) → cBy s C o p = 0
theorem cpJ.iff (h : cpJ C S O d z D s) (hD : ∀ k, 0 ≤ k → k < d 0 1 → d 1 (d 11 k) < 3 → (D' k ↔ D k)) : cpJ C S O d z D' s := ⟨fun k k0 k1 kD k3 => h.1 k k0 k1 ((hD k k0 k1 k3).mp kD) k3, fun o p o0 o1 p0 p1 q => h.2 o p o0 o1 p0 p1 fun k k0 k1 kD ko => q k k0 k1 ((hD k k0 k1 (by omega)).mpr kD) ko⟩
theorem cpJ.st (h : cpJ C S O d z D s) (v : vLy d) (k0 : 0 ≤ k) (k1 : k < d 0 1) (ho : d 1 (d 11 k) = o) (hk : cpK C S O u d z k) (hF : ∀ o' p', ¬ (o' = o ∧ plK d k - ouB d o ≤ p' ∧ p' < plK d k - ouB d o + szK d k (plK d k)) → cBy u C o' p' = cBy s C o' p') : cpJ C S O d z (fun x => D x ∨ x = k) u := by
  refine ⟨fun l l0 l1 lD l3 => ?_, fun o' p' o0 o1 p0 p1 q => ?_⟩
  · by_cases c : l = k
    · rw [c]; exact hk
    · have hl : D l := by rcases lD with q | q; exact q; exact absurd q c
      obtain ⟨g1, g2⟩ := h.1 l l0 l1 hl l3
      have far : ∀ i, 0 ≤ i → i < szK d l (plK d l) → cBy u C (d 1 (d 11 l)) (plK d l - ouB d (d 1 (d 11 l)) + i) = cBy s C (d 1 (d 11 l)) (plK d l - ouB d (d 1 (d 11 l)) + i) := fun i i0 i1 => hF _ _ fun q => by
        obtain ⟨q1, q2, q3⟩ := q
        rw [q1] at q2 q3
        by_cases cl : l < k
        · have := pl_lt v l0 cl k1 (by omega)
          omega
        · have := pl_lt v k0 (show k < l by omega) l1 (by omega)
          omega
      refine ⟨fun h4 i i0 i1 => by rw [far i i0 i1]; exact g1 h4 i i0 i1, fun h4 hz x x0 x1 hx hp i i0 i1 => by rw [far i i0 (by omega)]; exact g2 h4 hz x x0 x1 hx hp i i0 i1⟩
  · have hq : ¬ (o' = o ∧ plK d k - ouB d o ≤ p' ∧ p' < plK d k - ouB d o + szK d k (plK d k)) := fun z => by
      obtain ⟨z1, z2, z3⟩ := z
      exact q k k0 k1 (.inr rfl) (by omega) (by rw [z1]; constructor <;> omega)
    rw [hF o' p' hq]
    exact h.2 o' p' o0 o1 p0 p1 fun l l0 l1 lD lo => q l l0 l1 (.inl lD) lo
/-- the sections of all units -/
theorem c_copyAll (h : LZD C H S O s t e d z G) (hO : outK C s) (hK : ∀ a, C ≤ a → a < C + 15464 → ¬ (70 ≤ jK s a ∧ jK s a ≤ 77)) (h0 : ∀ o p, 0 ≤ o → o < 3 → 0 ≤ p → p < 4096 → cBy s C o p = 0) : ∃ u, m_X35_copy s (C + 4275) = some (u, 0) ∧ cOW C s u ∧ cpJ C S O d z (fun k => d 11 k < 4 * nIn S 6) u := by
  have v := h.1
  have v0 := v.1
  have v1 := v.2.1
  obtain ⟨-, -, -, ⟨p1, -⟩, ⟨r1, -, -⟩, ⟨hk1, -⟩, -⟩ := id h
  have n6 := nIn_lo (S := S) 6
  rw [em_X35_copy]; unfold dm_X35_copy
  rw [eu_X35_copy_2]; unfold du_X35_copy_2
  obtain ⟨u, eu, h1, h2⟩ := loopTo (C := jc2 b_X35_copy_2) (fun i w => cOW C s w ∧ cpJ C S O d z (fun k => d 11 k < 4 * i) w) (fun i => [C + 4275, i]) 0 (nIn S 6) n6.1 (s := s) (F := fun w => some (w, 0)) ⟨.rfl, fun k k0 k1 q => by have := (v.2.2.2.2.2.2.1 k k0 k1).2.1; omega, fun o p o0 o1 p0 p1 _ => h0 o p o0 o1 p0 p1⟩ (fun i w i0 i1 ⟨j1, j2⟩ => by
    obtain ⟨x, ⟨x0, x1⟩, hS, ex⟩ := nIn_ex 6 i i0 i1
    have x6 : x < 6 := by omega
    show ∃ w', b_X35_copy_2 w (C + 4275) i = some (.inl (w', [C + 4275, i + 1])) ∧ _
    unfold b_X35_copy_2
    have f5 : jf w 39 (C + 4275) 5 = nIn S 6 := by rw [j1.2 _ _ _ (by omega)]; exact hk1.2.1.1
    have J13 : jlt w 1000 (C + 4275 + 13) 6 i = some x := by rw [jlt_in i0 (by omega), j1.2 _ _ _ (by omega), ← ex, hk1.2.1.2 x x0 x6 hS]
    rw [f5, if_pos i1, J13, Option.bind_some, eu_X35_copy_19]; unfold du_X35_copy_19
    obtain ⟨w', ew, g1, g2⟩ := loopTo (C := jc4 b_X35_copy_19) (fun j u => cOW C s u ∧ cpJ C S O d z (fun k => d 11 k < 4 * i + j) u) (fun j => [C + 4275, i, x, j]) 0 3 (by decide) (s := w) (F := fun u => some (.inl (u, [C + 4275, i + 1]))) ⟨j1, by simpa using j2⟩ (fun j u jj0 jj1 ⟨k1, k2⟩ => by
      obtain ⟨⟨q1, q2, q3⟩, q4⟩ := r1.1 x j x0 x6 hS jj0 (by omega)
      rw [ex] at q1 q2 q3 q4
      obtain ⟨-, -, ⟨d1, d2, d3⟩, -⟩ := v.2.2.2.2.1 _ (by omega) q4
      show ∃ w', b_X35_copy_19 u (C + 4275) i x j = some (.inl (w', [C + 4275, i, x, j + 1])) ∧ _
      unfold b_X35_copy_19
      have J29 : jlt u 1000 (C + 4275 + 29) 32 (4 * i + j) = some (d 3 (4 * i + j)) := by rw [jlt_in (by omega) (by omega), k1.2 _ _ _ (by omega), (p1.2.2 _ (by omega) q4).1]
      have eF : C + 4275 + -4000 + 4041 + 1858 * x = fAt C x := by unfold fAt; omega
      rw [if_pos jj1]
      simp only [jlet]
      rw [W32_in (z := 4 * i) (by omega) (by omega), W32_in (z := 4 * i + j) (by omega) (by omega), jix_in x0 x6, Option.bind_some, eF, jix_in jj0 (by omega), Option.bind_some, J29, Option.bind_some, eu_X35_copy_59]; unfold du_X35_copy_59
      obtain ⟨w', ew, g1, g2⟩ := loopTo (C := jc7 b_X35_copy_59) (fun k u => cOW C s u ∧ cpJ C S O d z (fun l => d 11 l < 4 * i + j ∨ d 11 l = 4 * i + j ∧ l < k) u) (fun k => [C + 4275, i, x, j, 4 * i + j, fAt C x + 614 + 1 + 4 + 2 * j + 1, k]) (d 3 (4 * i + j)) (d 4 (4 * i + j)) d2 (s := u) (F := fun u => some (.inl (u, [C + 4275, i, x, j + 1]))) ⟨k1, k2.iff fun k k0 k1 _ => ⟨fun q => by
        rcases q with q | q
        · exact q
        · have := (v.2.2.2.2.2.2.1 k k0 k1).2.1
          rw [q.1] at this; omega, fun q => .inl q⟩⟩ (fun k u kk0 kk1 ⟨m1, m2⟩ => by
        have hz : LZD C H S O u t e d z G := h.zw hK m1.rw.zw tZW.rfl
        obtain ⟨w', ew, f1, f2, f3, f4, f5⟩ := c_copyK (i := i) hz (hO.cg m1.1) x0 x6 hS jj0 jj1 (by rw [ex]; exact ⟨kk0, kk1⟩)
        rw [ex] at ew
        have k00 : 0 ≤ k := by omega
        have k01 : k < d 0 1 := by omega
        have e11 := v.pt (by omega) q4 kk0 kk1
        have eo : d 1 (d 11 k) = j := by rw [e11]; exact q2
        refine ⟨w', ew, m1.trans f1, (m2.st v k00 k01 eo ⟨fun h4 => by rw [eo]; exact f3 h4, fun h4 hz' x' x0' x1' hx' hp => ?_⟩ f2).iff fun l l0 l1 _ => ⟨fun q => ?_, fun q => ?_⟩⟩
        · have : x' = x := nIn_inj hx' hS x0' x0 (by rw [ex]; omega)
          rw [this, eo]; exact f4 h4 hz'
        · by_cases c : l = k
          · exact .inr c
          · exact .inl (by omega)
        · rcases q with q | q
          · omega
          · rw [q]; exact .inr ⟨e11, by omega⟩) (fun u ⟨m1, m2⟩ => by
        show b_X35_copy_59 u (C + 4275) i x j (4 * i + j) (fAt C x + 614 + 1 + 4 + 2 * j + 1) (d 4 (4 * i + j)) = _
        unfold b_X35_copy_59
        have J30 : jlt u 1000 (C + 4275 + 30) 32 (4 * i + j) = some (d 4 (4 * i + j)) := by rw [jlt_in (by omega) (by omega), m1.2 _ _ _ (by omega), (p1.2.2 _ (by omega) q4).2]
        rw [J30, Option.bind_some, if_neg (by omega), eu_X35_copy_202]; unfold du_X35_copy_202
        rw [W32_in (by omega) (by omega)])
      refine ⟨w', ew, g1, g2.iff fun l l0 l1 _ => ⟨fun q => ?_, fun q => ?_⟩⟩
      · by_cases c : d 11 l = 4 * i + j
        · have := (v.2.2.2.2.2.2.1 l l0 l1).2.1
          rw [c] at this
          exact .inr ⟨c, by omega⟩
        · exact .inl (by omega)
      · omega) (fun u _ => by
      show b_X35_copy_19 u (C + 4275) i x 3 = _
      unfold b_X35_copy_19
      rw [if_neg (by decide), eu_X35_copy_208]; unfold du_X35_copy_208
      rw [W32_in (by omega) (by omega)])
    refine ⟨w', ew, g1, g2.iff fun l l0 l1 l3 => ⟨fun q => ?_, fun q => by omega⟩⟩
    by_cases c : d 11 l = 4 * i + 3
    · obtain ⟨⟨-, q2, -⟩, -⟩ := r1.1 x 3 x0 x6 hS (by decide) (by decide)
      rw [ex] at q2
      rw [c] at l3; omega
    · omega) (fun w ⟨j1, _⟩ => by
    show b_X35_copy_2 w (C + 4275) (nIn S 6) = _
    unfold b_X35_copy_2
    have f5 : jf w 39 (C + 4275) 5 = nIn S 6 := by rw [j1.2 _ _ _ (by omega)]; exact hk1.2.1.1
    rw [f5, if_neg (by omega)])
  exact ⟨u, eu, h1, h2⟩
end jLcq
