/-! the linker: marks of all units, the image is written, both sides *-/
set_option maxRecDepth 100000
section jLdt
variable {s t u w s0 t0 s' t' : jS} {a b k m n o p q v l x y c f g j A H C S X : Int} {O : Int → Int → Int → Int → Int} {d e z : Int → Int → Int} {i i' : Int → Int → Int → Int} {G B : Int → Int} {QQ : jS × Bool × Int → jS × Int → Prop}
/-- drawing as far as it goes -/
def drJ (C H S : Int) (O : Int → Int → Int → Int → Int) (s0 t0 : jS) (e d z : Int → Int → Int) (G : Int → Int) (s t : jS) : Prop := (cDW C s0 s ∧ tDW (H + 118) t0 t) ∧ drS C H S O s t e d z G ∧ ∃ i, imJ C H s t i
/-- a start of a unit -/
theorem x_mark (h : drJ C H S O s0 t0 e d z G s t) (x0 : 0 ≤ x) (x1 : x < 6) (hS : sIn S x) (k0 : 0 ≤ k) (k1 : k < O x 2 0 0) (hn : n = ouE d 0 - ouB d 0) : ∃ s' t', b_X35_draw_145 s (C + 4275) n (nIn S x.toNat) k = some (.inl (s', [C + 4275, n, nIn S x.toNat, k + 1])) ∧ b_X37_makeImage_99 t H x k = some (.inl (t', [H, x, k + 1])) ∧ drJ C H S O s0 t0 e d z G s' t' := by
  obtain ⟨⟨W, T⟩, hd, i, hI, hT, vi, cs⟩ := h
  have hz := hd.1
  have hk := hz.2.2.2.2.2.1.1
  obtain ⟨hO, hu, vo, g⟩ := hk.2.2.1 x x0 x1 hS
  obtain ⟨-, v1024, -⟩ := id vo.2.2.1
  obtain ⟨n1, -, n3⟩ := hu.2.2.1
  obtain ⟨st0, st1, -, -⟩ := vo.2.2.2.1 k k0 k1
  have hi0 := nIn_lo (S := S) x.toNat
  have J13 : jlt s 1000 (C + 4275 + 13) 6 (nIn S x.toNat) = some x := by
    have := nIn_lt hS x0 (x := 6) x1
    have h6 := (nIn_lo (S := S) 6).2
    rw [jlt_in (by omega) (by omega), hk.2.1.2 x x0 (by omega) hS]
  have eF : C + 4275 + -4000 + 4041 + 1858 * x = fAt C x := by unfold fAt; omega
  have eO : C + 4275 + -283 = C + 3992 := by omega
  obtain ⟨P, p1, p2, lo, hi⟩ := x_startP hz x0 x1 hS (a := O x 3 k 0) st0 (by omega)
  have lB := ouB_lo hz.1 (o := 0) (by decide) (by decide)
  have nb := hz.2.2.2.2.2.2.2.2
  have n4 : n ≤ 4096 := by
    by_cases c : n ≤ 4096
    · exact c
    · exact absurd (.inl ⟨0, by decide, by decide, by omega⟩) nb
  have oC := (hz.outC (o := 0) (by decide) (by decide)).1
  have oT := hz.outT (o := 0) (by decide) (by decide)
  have oS : m_X37_outputSize t H 0 = some n := by
    rw [em_X37_outputSize]; unfold dm_X37_outputSize
    have le := ouE_lo hz.1 (o := 0) (by decide) (by decide)
    rw [oT.2, oT.1, Option.bind_some, Option.bind_some, W32_in (by omega) (by omega), hn]
  have eq : qSt (O x) k = O x 3 k 0 := by unfold qSt; rw [if_pos ⟨k0, k1⟩]
  have e227 : ∀ s', u_X35_draw_227 s' (C + 4275) n (nIn S x.toNat) k = some (.inl (s', [C + 4275, n, nIn S x.toNat, k + 1])) := fun s' => by
    rw [eu_X35_draw_227]; unfold du_X35_draw_227
    rw [W32_in (by omega) (by omega)]
  have e177 : ∀ t', u_X37_makeImage_177 t' H x k = some (.inl (t', [H, x, k + 1])) := fun t' => by
    rw [eu_X37_makeImage_177]; unfold du_X37_makeImage_177
    rw [W32_in (by omega) (by omega)]
  have eC : b_X35_draw_145 s (C + 4275) n (nIn S x.toNat) k = if P - ouB d 0 < n then (m_X22_mark s (C + 3992) (P - ouB d 0) 1).bind fun q11 => u_X35_draw_227 q11.1 (C + 4275) n (nIn S x.toNat) k else u_X35_draw_227 s (C + 4275) n (nIn S x.toNat) k := by
    unfold b_X35_draw_145
    rw [J13, Option.bind_some, jix_in x0 x1, Option.bind_some, eF, c_qCt hO vo g, Option.bind_some, show qCt (O x) 0 = O x 2 0 0 from rfl, if_pos k1, Option.bind_some, Option.bind_some, jix_in x0 x1, Option.bind_some, eF, c_qSt hO vo ⟨by omega, by omega⟩, Option.bind_some, eq, p1, Option.bind_some]
    dsimp only
    rw [oC, Option.bind_some]
    simp only [jlet]
    rw [W64_in (by omega) (by omega), l2i_in (by omega) (by omega), eO]
  have eT : b_X37_makeImage_99 t H x k = if P - ouB d 0 < n then (if (P - ouB d 0) % 2 = 0 then (jst t 1002 (H + 118 + 6) 4096 ((P - ouB d 0) / 2) 1).bind fun s10 => u_X37_makeImage_177 s10 H x k else u_X37_makeImage_177 t H x k) else u_X37_makeImage_177 t H x k := by
    unfold b_X37_makeImage_99
    rw [jlt_in x0 x1, Option.bind_some, n1, if_pos k1, t_isIn hk, if_pos hS, Option.bind_some, if_neg n10, W32_in (z := 1024 * x) (by omega) (by omega), W32_in (z := 1024 * x + k) (by omega) (by omega), jlt_in (by omega) (by omega), Option.bind_some, n3 k k0 k1, p2, Option.bind_some, oT.1, Option.bind_some]
    simp only [jlet]
    rw [W32_in (z := P - ouB d 0) (by omega) (by omega), oS, Option.bind_some, jdv_in (by decide), jdv_in (by decide), I_rem_n (by omega) (by omega) (by decide) (by decide), I_div_n (by omega) (by omega) (by decide) (by decide), Option.bind_some, Option.bind_some, Wz_1]
  rw [eC, eT]
  by_cases c : P - ouB d 0 < n
  · rw [if_pos c, if_pos c]
    have hI1 : cIm s (C + 3992 + 1) i := by rw [show C + 3992 + 1 = C + 3993 by omega]; exact hI
    obtain ⟨q, e1, ⟨g1, g2⟩, g3⟩ := jE_and (i_mmark (v := P - ouB d 0) hI1 vi (by omega) (by omega)) (i_mark28 (s := s) (O := C + 3992) (v := P - ouB d 0) (by omega) (by omega))
    have W1 : cDW C s q.1 := g1.wide (by omega) (by omega)
    have cs1 := g3.is cs
    rw [e1, Option.bind_some, e227]
    rw [show C + 3992 + 1 = C + 3993 by omega] at g2
    by_cases c2 : (P - ouB d 0) % 2 = 0
    · rw [if_pos c2] at g2 ⊢
      rw [jst_in (by omega) (by omega), Option.bind_some, e177]
      have T1 : tDW (H + 118) t (jp t 1002 (H + 118 + 6) ((P - ouB d 0) / 2) 1) := tDW.rfl.jp (by omega)
      exact ⟨_, _, rfl, rfl, ⟨W.trans W1, T.trans T1⟩, hd.dw W1 T1 g2.2.2.2.2 cs1, _, g2, imJ.mark hT (by omega) (by omega), vi.mark, cs1⟩
    · rw [if_neg c2] at g2 ⊢
      rw [e177]
      exact ⟨_, _, rfl, rfl, ⟨W.trans W1, T⟩, hd.dw W1 .rfl g2.2.2.2.2 cs1, _, g2, hT, vi, cs1⟩
  · rw [if_neg c, if_neg c, e227, e177]
    exact ⟨s, t, rfl, rfl, ⟨W, T⟩, hd, i, hI, hT, vi, cs⟩
/-- all of them -/
theorem x_marks (h : drJ C H S O s0 t0 e d z G s t) (hn : n = ouE d 0 - ouB d 0) (hQ : ∀ s t, drJ C H S O s0 t0 e d z G s t → jE2 (u_X35_draw_239 s (C + 4275)) (u_X37_makeImage_189 t H) QQ) : jE2 (u_X35_draw_133 s (C + 4275) n 0) (u_X37_makeImage_91 t H 0) QQ := by
  have n6 := nIn_lo (S := S) 6
  rw [eu_X35_draw_133, eu_X37_makeImage_91]; unfold du_X35_draw_133 du_X37_makeImage_91
  refine jforU (S := S) (C := jc3 b_X35_draw_133) (D := jc2 b_X37_makeImage_91) (fun x u w => drJ C H S O s0 t0 e d z G u w) (fun i => [C + 4275, n, i]) (fun x => [H, x]) h (fun x u w x0 x1 hS hj => ?_) (fun x u w x0 x1 hS hj => ?_) (fun u w hj => ?_)
  · have hk := hj.2.1.1.2.2.2.2.2.1.1
    obtain ⟨hO, hu, vo, g⟩ := hk.2.2.1 x x0 x1 hS
    have v5 := vo.2.2.1
    have hi : nIn S x.toNat < nIn S 6 := nIn_lt hS x0 (x := 6) x1
    have hi0 := nIn_lo (S := S) x.toNat
    show jE2 (b_X35_draw_133 u (C + 4275) n (nIn S x.toNat)) (b_X37_makeImage_91 w H x) _
    unfold b_X35_draw_133 b_X37_makeImage_91
    have r5 : jf u 39 (C + 4275) 5 = nIn S 6 := hk.2.1.1
    rw [r5, if_pos hi, if_pos x1, eu_X35_draw_145, eu_X37_makeImage_99]; unfold du_X35_draw_145 du_X37_makeImage_99
    refine jforE (C := jc4 b_X35_draw_145) (D := jc3 b_X37_makeImage_99) (fun k u w => drJ C H S O s0 t0 e d z G u w) (fun k => [C + 4275, n, nIn S x.toNat, k]) (fun k => [H, x, k]) 0 (O x 2 0 0) v5.1 hj (fun k u w k0 k1 hj => ?_) (fun u w hj => ?_)
    · obtain ⟨s', t', e1, e2, h3⟩ := x_mark hj x0 x1 hS k0 k1 hn
      exact .inl ⟨s', t', e1, e2, h3⟩
    · have hk := hj.2.1.1.2.2.2.2.2.1.1
      obtain ⟨hO, hu, vo, g⟩ := hk.2.2.1 x x0 x1 hS
      have n1 := hu.2.2.1.1
      have J13 : jlt u 1000 (C + 4275 + 13) 6 (nIn S x.toNat) = some x := by
        rw [jlt_in (by omega) (by omega), hk.2.1.2 x x0 (by omega) hS]
      refine ⟨u_X35_draw_233 u (C + 4275) n (nIn S x.toNat), u_X37_makeImage_183 w H x, ?_, ?_, ?_⟩
      · show b_X35_draw_145 u (C + 4275) n (nIn S x.toNat) (O x 2 0 0) = _
        unfold b_X35_draw_145
        rw [J13, Option.bind_some, jix_in x0 x1, Option.bind_some, show C + 4275 + -4000 + 4041 + 1858 * x = fAt C x by unfold fAt; omega, c_qCt hO vo g, Option.bind_some, show qCt (O x) 0 = O x 2 0 0 from rfl, if_neg (Int.lt_irrefl _)]
      · show b_X37_makeImage_99 w H x (O x 2 0 0) = _
        unfold b_X37_makeImage_99
        rw [jlt_in x0 x1, Option.bind_some, n1, if_neg (Int.lt_irrefl _)]
      · rw [eu_X35_draw_233, eu_X37_makeImage_183]; unfold du_X35_draw_233 du_X37_makeImage_183
        rw [W32_in (by omega) (by omega), W32_in (by omega) (by omega)]
        exact jE2_some.mpr (.inl ⟨_, _, rfl, rfl, hj⟩)
  · refine ⟨?_, hj⟩
    have hk := hj.2.1.1.2.2.2.2.2.1.1
    have e183 : u_X37_makeImage_183 w H x = some (.inl (w, [H, x + 1])) := by
      rw [eu_X37_makeImage_183]; unfold du_X37_makeImage_183
      rw [W32_in (by omega) (by omega)]
    show b_X37_makeImage_91 w H x = _
    unfold b_X37_makeImage_91
    rw [if_pos x1, eu_X37_makeImage_99]; unfold du_X37_makeImage_99
    have body : jc3 b_X37_makeImage_99 [H, x, 0] w = jinr (u_X37_makeImage_183 w H x) := by
      show b_X37_makeImage_99 w H x 0 = _
      unfold b_X37_makeImage_99
      rw [jlt_in x0 x1, Option.bind_some, t_isIn hk, if_neg hS, Option.bind_some, if_pos rfl]
      split <;> rfl
    rw [jlpW_r body]; exact e183
  · refine ⟨u_X35_draw_239 u (C + 4275), u_X37_makeImage_189 w H, ?_, ?_, hQ u w hj⟩
    · show b_X35_draw_133 u (C + 4275) n (nIn S 6) = _
      unfold b_X35_draw_133
      have r5 : jf u 39 (C + 4275) 5 = nIn S 6 := hj.2.1.1.2.2.2.2.2.1.1.2.1.1
      rw [r5, if_neg (Int.lt_irrefl _)]
    · show b_X37_makeImage_91 w H 6 = _
      unfold b_X37_makeImage_91
      rw [if_neg (by decide)]
end jLdt
