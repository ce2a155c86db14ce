/-! the linker: the parts of a unit, both sides *-/
set_option maxRecDepth 100000
section jLun
variable {s t u w s' t' s0 t0 q' : jS} {a b g k m n p v l x y0 c j X f i H C P Q P' Q' S Si w0 l0 c0 z0 N M rr : Int} {O : Int → Int → Int → Int → Int} {o : Int → Int → Int → Int} {d d' d2 e z z' z2 y y' : Int → Int → Int}
/-- a unit's section has its part -/
def ptR (H S : Int) (O : Int → Int → Int → Int → Int) (t : jS) (d z : Int → Int → Int) (v j : Int) : Prop := jf t 1000 (H + 202) (4 * v + j) = 4 * nIn S v.toNat + j ∧ d 1 (4 * nIn S v.toNat + j) = j ∧ pCt d z (4 * nIn S v.toNat + j) (O v 1 j 0)
/-- within unit x, k sections done -/
def uJ (C H S : Int) (O : Int → Int → Int → Int → Int) (s0 t0 : jS) (e : Int → Int → Int) (x k : Int) (s t : jS) : Prop := ∃ d z y, lpS C H S O s0 t0 s t e d z y ∧ d 0 0 = 4 * nIn S x.toNat + k ∧ ((∀ v j, 0 ≤ v → v < x → sIn S v → 0 ≤ j → j < 4 → ptR H S O t d z v j) ∧ ∀ j, 0 ≤ j → j < k → ptR H S O t d z x j) ∧ (∀ i, 0 ≤ i → i < d 0 1 → pcI O d z i ∧ z 3 i ≤ x ∧ (k = 0 → z 3 i < x)) ∧ (∀ i, jf s 1000 (C + 4275 + 22) i = jf s0 1000 (C + 4275 + 22) i) ∧ ∀ i, jf t 1000 (H + 195) i = jf t0 1000 (H + 195) i
theorem ptR.pt (h : ptR H S O t d z v j) (v0 : 0 ≤ v) (j0 : 0 ≤ j) (hp : 4 * nIn S v.toNat + j < d 0 0) (F : jf u 1000 (H + 202) (4 * v + j) = jf t 1000 (H + 202) (4 * v + j)) : ptR H S O u (dPt d p n) z v j := by
  obtain ⟨h1, h2, h3⟩ := h
  have := (nIn_lo (S := S) v.toNat).1
  exact ⟨by rw [F]; exact h1, by rw [dPt_no (by omega) (by omega)]; exact h2, h3.pt (by omega) hp⟩
theorem ptR.sk (h : ptR H S O t d z v j) (j0 : 0 ≤ j) (hp : 4 * nIn S v.toNat + j < d 0 0 - 1) (g : sK d z d' z') (vl : vLy d) (F : ∀ i, jf u 1000 (H + 202) i = jf t 1000 (H + 202) i) : ptR H S O u d' z' v j := by
  obtain ⟨h1, h2, h3⟩ := h
  have := (nIn_lo (S := S) v.toNat).1
  exact ⟨by rw [F]; exact h1, by rw [g.2.2.2.1 _ _ (by omega) (by omega)]; exact h2, h3.sk g vl (by omega) hp⟩
theorem lu_sec (h : uJ C H S O s0 t0 e x k s t) (x0 : 0 ≤ x) (x1 : x < 6) (hS : sIn S x) (k0 : 0 ≤ k) (k1 : k < 4) (hb : jBd s0 837 6663) : (∃ s' t', b_X35_layOut_79 s (C + 4275) (nIn S x.toNat) x k = some (.inl (s', [C + 4275, nIn S x.toNat, x, k + 1])) ∧ b_X37_layParts_25 t H x k = some (.inl (t', [H, x, k + 1])) ∧ uJ C H S O s0 t0 e x (k + 1) s' t') ∨ ∃ r q, b_X35_layOut_79 s (C + 4275) (nIn S x.toNat) x k = jinr (jinr (some r)) ∧ b_X37_layParts_25 t H x k = jinr (jinr (some q)) ∧ q.2 = 0 ∧ lkX C H s0 t0 837 6663 r q.1 := by
  obtain ⟨d, z, y, h1, h2, ⟨h3, h4⟩, h5, h6, h7⟩ := h
  obtain ⟨hO, hu, v, g⟩ := h1.2.2.1.1.2.2.1 x x0 x1 hS
  have eF : C + 4275 + -4000 + 4041 + 1858 * x = fAt C x := by unfold fAt; omega
  have nx := nIn_lo (S := S) x.toNat
  have nxS : ∀ v, 0 ≤ v → v < x → sIn S v → nIn S v.toNat < nIn S x.toNat := fun v v0 v1 hv => nIn_lt hv v0 v1
  obtain ⟨s1, s2⟩ := hO.2.1 k k0 k1
  obtain ⟨t1, t2⟩ := hu.1 k k0 k1
  obtain ⟨n0, n1, n2⟩ := v.1 k k0 k1
  have n4 : O x 1 k 0 ≤ 4096 := by split at n1 <;> omega
  have W1 : W32 (W32 (4 * x) + k) = 4 * x + k := by rw [W32_in (z := 4 * x) (by omega) (by omega), W32_in (by omega) (by omega)]
  unfold b_X35_layOut_79 b_X37_layParts_25
  rw [if_pos k1, if_pos k1, jix_in x0 x1, Option.bind_some, eF, jix_in k0 k1, Option.bind_some, s2, W1, jlt_in (by omega) (by omega), Option.bind_some, t2]
  obtain ⟨r, q, e1, e2, hq⟩ := lp_part h1 hb ⟨k0, k1⟩ n2
  rw [e1, e2, Option.bind_some, Option.bind_some]
  rcases hq with ⟨b1, b2⟩ | ⟨b1, b2, b3, b4, b5, b6⟩
  · rw [b2.1.1, if_pos b1]
    exact .inr ⟨_, _, rfl, rfl, Wz_0, ⟨rfl, b2.1.2⟩, b2.2⟩
  · have v00 := h1.1.1.1
    rw [b1, jth_ff, b2, b4, if_neg (show ¬ d 0 0 = -1 by omega), jst_in (by omega) (by omega), Option.bind_some]
    obtain ⟨w2, W2⟩ : ∃ w2, w2 = jp q.1 1000 (H + 202) (4 * x + k) (d 0 0) := ⟨_, rfl⟩
    obtain ⟨G, p2, -⟩ := jpF W2
    rw [← W2]
    have hS1 := b5.w202 W2
    have D0 : dPt d k (lgF (O x 1 k 1)) 0 0 = d 0 0 + 1 := dPt_0
    have D1 : dPt d k (lgF (O x 1 k 1)) 0 1 = d 0 1 := dPt_no (by omega) (by omega)
    have ep : d 0 0 = dPt d k (lgF (O x 1 k 1)) 0 0 - 1 := by rw [D0]; omega
    have hp : 0 < dPt d k (lgF (O x 1 k 1)) 0 0 := by rw [D0]; omega
    have he : dPt d k (lgF (O x 1 k 1)) 3 (dPt d k (lgF (O x 1 k 1)) 0 0 - 1) = dPt d k (lgF (O x 1 k 1)) 4 (dPt d k (lgF (O x 1 k 1)) 0 0 - 1) := by rw [← ep, dPt_3, dPt_4]
    -- how it goes on
    have on : ∀ {r' : jS × Bool × Int} {q' : jS × Int} {d' z' y' : Int → Int → Int}, sK (dPt d k (lgF (O x 1 k 1))) z d' z' → lpS C H S O s0 t0 r'.1 q'.1 e d' z' y' → (∀ i, 0 ≤ i → i < d' 0 1 → pcI O d' z' i ∧ z' 3 i ≤ x) → pCt d' z' (d 0 0) (O x 1 k 0) → jRc C H r.1 w2 r'.1 q'.1 → uJ C H S O s0 t0 e x (k + 1) r'.1 q'.1 := fun {r' q' d' z' y'} c1 c2 c3 c4 c5 => by
      have F202 : ∀ i, jf q'.1 1000 (H + 202) i = jf w2 1000 (H + 202) i := fun i => c5.2 _ _ (by omega)
      have old : ∀ v j, 0 ≤ v → 0 ≤ j → 4 * nIn S v.toNat + j < d 0 0 → ¬ 4 * v + j = 4 * x + k → ptR H S O t d z v j → ptR H S O q'.1 d' z' v j := fun v j v0 j0 hp hne hh => by
        have := hh.pt (u := w2) (p := k) (n := lgF (O x 1 k 1)) v0 j0 hp (by rw [G _ _ _ (by omega)]; exact b6.2 _ _ (by omega))
        exact this.sk j0 (by rw [← ep]; exact hp) c1 hS1.1.1 F202
      refine ⟨d', z', y', c2, by rw [c1.1.1, D0]; omega, ⟨fun v j v0 v1 hv j0 j1 => ?_, fun j j0 j1 => ?_⟩, fun i i0 i1 => ⟨(c3 i i0 i1).1, (c3 i i0 i1).2, fun z => by omega⟩, fun i => by rw [c5.1, b6.1]; exact h6 i, fun i => by rw [c5.2 _ _ (by omega), G _ _ _ (by omega), b6.2 _ _ (by omega)]; exact h7 i⟩
      · have := nxS v v0 v1 hv
        exact old v j v0 j0 (by omega) (by omega) (h3 v j v0 v1 hv j0 j1)
      · by_cases c : j = k
        · rw [c]
          refine ⟨by rw [F202, p2, h2], ?_, by rw [← h2]; exact c4⟩
          rw [← h2, c1.2.2.2.1 1 _ (by omega) (by omega), dPt_1]
        · exact old x j x0 j0 (by omega) (by omega) (h4 j j0 (by omega))
    have pc1 : ∀ i, 0 ≤ i → i < dPt d k (lgF (O x 1 k 1)) 0 1 → pcI O (dPt d k (lgF (O x 1 k 1))) z i ∧ z 3 i ≤ x ∧ (k = 0 → z 3 i < x) := fun i i0 i1 => by
      rw [D1] at i1
      obtain ⟨q1, q2, q3⟩ := h5 i i0 i1
      exact ⟨q1.pt, q2, q3⟩
    have Wk : W32 (k + 1) = k + 1 := W32_in (by omega) (by omega)
    by_cases ck : k = 0
    · rw [if_pos ck, if_pos ck]
      obtain ⟨r', q', f1, f2, hr⟩ := lp_text hS1 hb x0 x1 hS hp he (fun i i0 i1 => ⟨(pc1 i i0 i1).1, (pc1 i i0 i1).2.2 ck⟩) (by rw [← ep, dPt_1]; exact ⟨ck, by omega, hS⟩)
      rw [← ep] at f1 f2
      rw [f1, f2, Option.bind_some, Option.bind_some]
      rcases hr with ⟨c1, c2⟩ | ⟨c1, c2, d', z', y', c3, c4, c5, c6, c7⟩
      · rw [c2.1.1, if_pos c1]
        exact .inr ⟨_, _, rfl, rfl, Wz_0, ⟨rfl, c2.1.2⟩, c2.2⟩
      · rw [c1, jth_ff, if_neg (by omega), eu_X35_layOut_154, eu_X37_layParts_101]; unfold du_X35_layOut_154 du_X37_layParts_101
        rw [Wk]
        refine .inl ⟨_, _, rfl, rfl, on c3 c4 c5 ?_ c7⟩
        rw [← ep] at c6; rw [ck]; exact c6
    · rw [if_neg ck, if_neg ck]
      obtain ⟨hO1, hu1, -, -⟩ := hS1.2.2.1.1.2.2.1 x x0 x1 hS
      rw [(hO1.2.1 k k0 k1).1, jlt_in (by omega) (by omega), Option.bind_some, (hu1.1 k k0 k1).1]
      obtain ⟨q2, f0, ⟨g1, -⟩, r', q', f1, f2, hr⟩ := lp_plain (x := x) (m := x) hS1 hb hp he ⟨n0, n4⟩ (fun i i0 i1 => ⟨(pc1 i i0 i1).1, (pc1 i i0 i1).2.1⟩) (Int.le_refl _)
      obtain ⟨hO2, -⟩ := (hS1.2.2.1.bw g1 tBW.rfl).1.2.2.1 x x0 x1 hS
      rw [← ep] at f0 f1 f2
      rw [f0, f2, Option.bind_some, Option.bind_some, (hO2.2.1 k k0 k1).1, f1, Option.bind_some]
      rcases hr with ⟨c1, c2⟩ | ⟨c1, c2, d', z', y', c3, c4, c5, c6, c7⟩
      · rw [c2.1.1, if_pos c1]
        exact .inr ⟨_, _, rfl, rfl, Wz_0, ⟨rfl, c2.1.2⟩, c2.2⟩
      · rw [c1, jth_ff, if_neg (by omega), eu_X35_layOut_154, eu_X37_layParts_101]; unfold du_X35_layOut_154 du_X37_layParts_101
        rw [Wk]
        refine .inl ⟨_, _, rfl, rfl, on c3 c4 c5 ?_ c7⟩
        rw [← ep] at c6; exact c6
end jLun
