/-! the linker: the parts of all units, both sides *-/
set_option maxRecDepth 100000
section jLuv
variable {s t u w s' t' s0 t0 q' : jS} {a b g k m n p v l x y0 c j X f i H C P Q P' Q' S Si w0 l0 c0 z0 N M rr : Int} {O : Int → Int → Int → Int → Int} {o : Int → Int → Int → Int} {d d' d2 e z z' z2 y y' : Int → Int → Int} {QQ : jS × Bool × Int → jS × Int → Prop}
theorem uJ.nx (h : uJ C H S O s0 t0 e x 4 s t) (x0 : 0 ≤ x) (hS : sIn S x) : uJ C H S O s0 t0 e (x + 1) 0 s t := by
  obtain ⟨d, z, y, h1, h2, ⟨h3, h4⟩, h5, h6⟩ := h
  have en : nIn S (x + 1).toNat = nIn S x.toNat + 1 := by rw [nIn_s x0, if_pos hS]
  refine ⟨d, z, y, h1, by rw [en]; omega, ⟨fun v j v0 v1 hv j0 j1 => ?_, fun j j0 j1 => by omega⟩, fun i i0 i1 => ?_, h6⟩
  · by_cases c : v = x
    · rw [c]; exact h4 j j0 j1
    · exact h3 v j v0 (by omega) hv j0 j1
  · obtain ⟨q1, q2, -⟩ := h5 i i0 i1
    exact ⟨q1, by omega, fun _ => by omega⟩
theorem uJ.no (h : uJ C H S O s0 t0 e x 0 s t) (x0 : 0 ≤ x) (hS : ¬ sIn S x) : uJ C H S O s0 t0 e (x + 1) 0 s t := by
  obtain ⟨d, z, y, h1, h2, ⟨h3, h4⟩, h5, h6⟩ := h
  have en : nIn S (x + 1).toNat = nIn S x.toNat := by rw [nIn_s x0, if_neg hS, Int.add_zero]
  refine ⟨d, z, y, h1, by rw [en]; exact h2, ⟨fun v j v0 v1 hv j0 j1 => ?_, fun j j0 j1 => by omega⟩, fun i i0 i1 => ?_, h6⟩
  · by_cases c : v = x
    · rw [c] at hv; exact absurd hv hS
    · exact h3 v j v0 (by omega) hv j0 j1
  · obtain ⟨q1, q2, -⟩ := h5 i i0 i1
    exact ⟨q1, by omega, fun _ => by omega⟩
theorem lu_all (h : uJ C H S O s0 t0 e 0 0 s t) (hb : jBd s0 837 6663) (hF : ∀ (r : jS × Bool × Int) (q : jS × Int), q.2 = 0 → lkX C H s0 t0 837 6663 r q.1 → QQ r q) (hG : ∀ s t, uJ C H S O s0 t0 e 6 0 s t → jE2 (u_X35_layOut_166 s (C + 4275)) (u_X37_layParts_113 t H) QQ) : jE2 (u_X35_layOut_62 s (C + 4275) 0) (u_X37_layParts_6 t H 0) QQ := by
  rw [eu_X35_layOut_62, eu_X37_layParts_6]; unfold du_X35_layOut_62 du_X37_layParts_6
  refine jforU (S := S) (C := jc2 b_X35_layOut_62) (D := jc2 b_X37_layParts_6) (fun x s t => uJ C H S O s0 t0 e x 0 s t) (fun i => [C + 4275, i]) (fun x => [H, x]) h (fun x s t x0 x1 hS hJ => ?_) (fun x s t x0 x1 hS hJ => ?_) (fun s t hJ => ?_)
  · show jE2 (b_X35_layOut_62 s (C + 4275) (nIn S x.toNat)) (b_X37_layParts_6 t H x) _
    have hk : lkB C H S O s t := by obtain ⟨d, z, y, h1, -⟩ := hJ; exact h1.2.2.1.1
    have n6 : nIn S x.toNat < nIn S 6 := nIn_lt hS x0 (x := 6) x1
    have nx := nIn_lo (S := S) x.toNat
    have n7 := (nIn_lo (S := S) 6).2
    unfold b_X35_layOut_62 b_X37_layParts_6
    have r13 := hk.2.1.2 x x0 x1 hS
    have r5 : jf s 39 (C + 4275) 5 = nIn S 6 := hk.2.1.1
    rw [r5, if_pos n6, if_pos x1, jlt_in (by omega) (by omega), Option.bind_some, r13, t_isIn hk, if_pos hS, Option.bind_some, if_neg (by decide), eu_X35_layOut_79, eu_X37_layParts_25]; unfold du_X35_layOut_79 du_X37_layParts_25
    refine jforE (C := jc4 b_X35_layOut_79) (D := jc3 b_X37_layParts_25) (fun k s t => uJ C H S O s0 t0 e x k s t) (fun k => [C + 4275, nIn S x.toNat, x, k]) (fun k => [H, x, k]) 0 4 (by decide) hJ (fun k s t k0 k1 hj => ?_) (fun s t hj => ?_)
    · rcases lu_sec hj x0 x1 hS k0 k1 hb with ⟨s', t', e1, e2, h3⟩ | ⟨r, q, e1, e2, e3, e4⟩
      · exact .inl ⟨s', t', e1, e2, h3⟩
      · exact .inr ⟨_, _, e1, e2, jE2_some.mpr (.inr ⟨_, _, rfl, rfl, hF r q e3 e4⟩)⟩
    · refine ⟨u_X35_layOut_160 s (C + 4275) (nIn S x.toNat), u_X37_layParts_107 t H x, ?_, ?_, ?_⟩
      · show b_X35_layOut_79 s (C + 4275) (nIn S x.toNat) x 4 = _
        unfold b_X35_layOut_79; rw [if_neg (by decide)]
      · show b_X37_layParts_25 t H x 4 = _
        unfold b_X37_layParts_25; rw [if_neg (by decide)]
      · rw [eu_X35_layOut_160, eu_X37_layParts_107]; unfold du_X35_layOut_160 du_X37_layParts_107
        rw [W32_in (by omega) (by omega), W32_in (by omega) (by omega)]
        exact jE2_some.mpr (.inl ⟨_, _, rfl, rfl, hj.nx x0 hS⟩)
  · have hk : lkB C H S O s t := by obtain ⟨d, z, y, h1, -⟩ := hJ; exact h1.2.2.1.1
    refine ⟨?_, hJ.no x0 hS⟩
    show b_X37_layParts_6 t H x = _
    unfold b_X37_layParts_6
    rw [if_pos x1, t_isIn hk, if_neg hS, Option.bind_some, if_pos rfl, eu_X37_layParts_107]; unfold du_X37_layParts_107
    rw [W32_in (by omega) (by omega)]
  · have hk : lkB C H S O s t := by obtain ⟨d, z, y, h1, -⟩ := hJ; exact h1.2.2.1.1
    have r5 : jf s 39 (C + 4275) 5 = nIn S 6 := hk.2.1.1
    refine ⟨u_X35_layOut_166 s (C + 4275), u_X37_layParts_113 t H, ?_, ?_, hG s t hJ⟩
    · show b_X35_layOut_62 s (C + 4275) (nIn S 6) = _
      unfold b_X35_layOut_62; rw [r5, if_neg (by omega)]
    · show b_X37_layParts_6 t H 6 = _
      unfold b_X37_layParts_6; rw [if_neg (by decide)]
end jLuv
