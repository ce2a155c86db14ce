/-! the linker: all relocations, both sides *-/
set_option maxRecDepth 100000
section jLra
variable {s t u u1 u2 w w' s' t' s0 t0 : jS} {a b k m n o p q v l x c f g i j A H C K S X P Q F rr : Int} {O : Int → Int → Int → Int → Int} {d e z y : Int → Int → Int} {G B : Int → Int}
/-- relocations ahead of n are done -/
def rlJ (C H S : Int) (O : Int → Int → Int → Int → Int) (s0 t0 : jS) (e d z : Int → Int → Int) (G : Int → Int) (F n : Int) (s t : jS) : Prop := (cRW C s0 s ∧ tRW H t0 t) ∧ rlS C H S O s t e d z G ∧ outI C H O s t d z n ∧ jf s 39 (C + 4275) 33 = F ∧ jf t 41 H 106 = F
/-- no piece waits for a relocation that isn't there -/
theorem rlS.gap (h : rlS C H S O s t e d z G) (x0 : 0 ≤ x) (x1 : x < 6) (hn : ¬ sIn S x ∨ O x 2 2 0 ≤ n) (n0 : 0 ≤ n) (n3 : n ≤ 300) (ho : outI C H O s t d z (300 * x + n)) : outI C H O s t d z (300 * (x + 1)) := by
  refine ho.no (by omega) (fun _ _ _ _ => rfl) (fun _ _ _ _ _ _ => rfl) fun k k0 k1 k5 kn kn' => ?_
  exfalso
  have pU := (h.1.2.2.2.2.1.2.2 k k0 k1).1 k5
  rcases (h.1.2.2.2.2.1.1.2.2 k k0 k1).2 with ⟨q, -⟩ | ⟨z3, i, ⟨i0, i1, i2⟩, q5, -⟩
  · omega
  · have e1 : z 3 k = x := by omega
    rw [e1] at i2 pU
    rcases hn with q | q
    · exact q pU.2.2
    · omega
theorem x_relAll (h : rlS C H S O s t e d z G) (ho : outI C H O s t d z 0) (h33 : jf s 39 (C + 4275) 33 = F) (h106 : jf t 41 H 106 = F) (hb : jBd s 1 6) : jE2 (m_X35_relocateAll s (C + 4275)) (u_X37_relocateAll_6 t H 0) fun r q => (r.2 = (false, 0) ∧ q.2 = 1 ∧ rlJ C H S O s t e d z G F 1800 r.1 q.1) ∨ (q.2 = 0 ∧ lkX C H s t 1 6 r q.1) := by
  have hC := h.1.2.2.2.2.2.1.1.1
  have n6 := nIn_lo (S := S) 6
  rw [em_X35_relocateAll]; unfold dm_X35_relocateAll
  rw [eu_X35_relocateAll_2, eu_X37_relocateAll_6]; unfold du_X35_relocateAll_2 du_X37_relocateAll_6
  refine jforU (S := S) (C := jc2 b_X35_relocateAll_2) (D := jc2 b_X37_relocateAll_6) (fun x u w => rlJ C H S O s t e d z G F (300 * x) u w) (fun i => [C + 4275, i]) (fun x => [H, x]) ⟨⟨.rfl, .rfl⟩, h, ho, h33, h106⟩ (fun x u w x0 x1 hS hj => ?_) (fun x u w x0 x1 hS hj => ?_) (fun u w hj => ?_)
  · obtain ⟨⟨W1, T1⟩, hr, hO, a33, a106⟩ := hj
    obtain ⟨hOb, hTb⟩ := hr.ob x0 x1 hS
    have hk := hr.1.2.2.2.2.2.1.1
    obtain ⟨-, -, vo, g⟩ := hk.2.2.1 x x0 x1 hS
    obtain ⟨-, -, -, -, v5, v6⟩ := id vo.2.2.1
    have hi : nIn S x.toNat < nIn S 6 := nIn_lt hS x0 (x := 6) x1
    have hi0 := nIn_lo (S := S) x.toNat
    show jE2 (b_X35_relocateAll_2 u (C + 4275) (nIn S x.toNat)) (b_X37_relocateAll_6 w H x) _
    unfold b_X35_relocateAll_2 b_X37_relocateAll_6
    have r5 : jf u 39 (C + 4275) 5 = nIn S 6 := hk.2.1.1
    rw [r5, if_pos hi, jlt_in (by omega) (by omega), Option.bind_some, hk.2.1.2 x x0 (by omega) hS, if_pos x1, t_isIn hk, if_pos hS, Option.bind_some, if_neg n10]
    simp only [jls]
    obtain ⟨u1, E1⟩ : ∃ u1, u1 = jp u 39 (C + 4275) 35 x := ⟨_, rfl⟩
    obtain ⟨f1, p1, -⟩ := jpF E1
    obtain ⟨w1, E2⟩ : ∃ w1, w1 = jp w 41 H 113 x := ⟨_, rfl⟩
    obtain ⟨f2, p2, -⟩ := jpF E2
    rw [← E1, ← E2, p1, jix_in x0 (by omega), Option.bind_some, show C + 4275 + -4000 + 4041 + 1858 * x = fAt C x by unfold fAt; omega]
    have R1 : cRW C u u1 := cRW.rfl.wr E1 (by omega)
    have Q1 : tRW H w w1 := tRW.rfl.wr E2 (by omega)
    have h1 := hr.rw R1 Q1
    obtain ⟨hOb1, hTb1⟩ := h1.ob x0 x1 hS
    obtain ⟨u2, e2, m2, F2, rx2⟩ := c_relax (C := C) hOb1 hTb1 vo g ⟨by unfold fAt; omega, by unfold fAt; omega⟩
    have R2 : cRW C u1 u2 := ⟨m2, fun c a k q => F2 c a k (by omega)⟩
    obtain ⟨u3, E3⟩ : ∃ u3, u3 = jp u2 39 (C + 4275) 36 0 := ⟨_, rfl⟩
    obtain ⟨f3, p3, -⟩ := jpF E3
    have R3 : cRW C u2 u3 := cRW.rfl.wr E3 (by omega)
    rw [e2, Option.bind_some]
    dsimp only
    rw [← E3, eu_X35_relocateAll_41, eu_X37_relocateAll_30]; unfold du_X35_relocateAll_41 du_X37_relocateAll_30
    have R13 := (R1.trans R2).trans R3
    have by3 : ∀ o p, cBy u3 C o p = cBy u C o p := fun o p => by
      show jf u3 1001 _ _ = _
      rw [f3 _ _ _ (by omega), F2 _ _ _ (by omega), f1 _ _ _ (by omega)]
    have o3 : outI C H O u3 w1 d z (300 * x + 0) := by
      rw [Int.add_zero]; exact hO.st by3 fun o p => f2 _ _ _ (by omega)
    refine jforE (C := jc2 b_X35_relocateAll_41) (D := jc3 b_X37_relocateAll_30) (fun k u w => rlJ C H S O s t e d z G F (300 * x + k) u w ∧ (jf u 39 (C + 4275) 35 = x ∧ jf u 39 (C + 4275) 36 = k) ∧ jf w 41 H 113 = x ∧ rxC C u (O x)) (fun k => [C + 4275, nIn S x.toNat]) (fun k => [H, x, k]) 0 (O x 2 2 0) v5 ⟨⟨⟨W1.trans R13, T1.trans Q1⟩, hr.rw R13 Q1, o3, by rw [f3 _ _ _ (by omega), F2 _ _ _ (by omega), f1 _ _ _ (by omega)]; exact a33, by rw [f2 _ _ _ (by omega)]; exact a106⟩, ⟨by rw [f3 _ _ _ (by omega), F2 _ _ _ (by omega)]; exact p1, p3⟩, p2, fun a q0 q1 => by rw [f3 _ _ _ (by omega)]; exact rx2 a q0 q1⟩ (fun k u w k0 k1 hj => ?_) (fun u w hj => ?_)
    · obtain ⟨⟨⟨W1, T1⟩, hr, hO, a33, a106⟩, ⟨b35, b36⟩, b113, brx⟩ := hj
      obtain ⟨hOb, hTb⟩ := hr.ob x0 x1 hS
      obtain ⟨-, -, hut, -⟩ := hr.rl x0 x1 hS k0 k1
      obtain ⟨rr, qq, e1, e2, hx⟩ := x_rel hr hO ⟨⟨a33, a106⟩, brx⟩ (hb.sm W1.1) x0 x1 hS k0 k1 b35 b36 b113
      have n1 := hut.2.2.2.2.1
      have eC : b_X35_relocateAll_41 u (C + 4275) (nIn S x.toNat) = jth rr.2.1 (jinr (jinr (some (rr.1, true, rr.2.2)))) (some (.inl (jp rr.1 39 (C + 4275) 36 (W32 (jf rr.1 39 (C + 4275) 36 + 1)), [C + 4275, nIn S x.toNat]))) := by
        unfold b_X35_relocateAll_41
        rw [b35, jix_in x0 (by omega), Option.bind_some, show C + 4275 + -4000 + 4041 + 1858 * x = fAt C x by unfold fAt; omega, c_qCt hOb vo g, Option.bind_some, show qCt (O x) 2 = O x 2 2 0 from rfl, b36, if_pos k1, Option.bind_some, jix_in k0 (by omega), Option.bind_some, show fAt C x + 614 + 4 + 309 + 1 * k = rlA (fAt C x + 614) k from rfl, e1, Option.bind_some]; rfl
      have eT : b_X37_relocateAll_30 w H x k = if qq.2 = 0 then jinr (jinr (some (qq.1, 0))) else some (.inl (qq.1, [H, x, k + 1])) := by
        unfold b_X37_relocateAll_30
        rw [jlt_in x0 x1, Option.bind_some, n1, if_pos k1, W32_in (z := 300 * x) (by omega) (by omega), W32_in (z := 300 * x + k) (by omega) (by omega), e2, Option.bind_some, Wz_0, W32_in (z := k + 1) (by omega) (by omega)]
      have eC : jc2 b_X35_relocateAll_41 [C + 4275, nIn S x.toNat] u = _ := eC
      have eT : jc3 b_X37_relocateAll_30 [H, x, k] w = _ := eT
      rw [eC, eT]
      rcases hx with ⟨g1, g2⟩ | ⟨g1, g2, g3, g4, g5⟩
      · rw [if_pos g1, g2.1.1]
        refine .inr ⟨jinr (some (rr.1, true, rr.2.2)), jinr (some (qq.1, 0)), rfl, rfl, ?_⟩
        refine jE2_some.mpr (.inr ⟨_, _, rfl, rfl, .inr ⟨rfl, ?_⟩⟩)
        have := g2.rs W1 T1
        obtain ⟨r1, r2, r3⟩ := rr
        have er : r2 = true := this.1.1
        rw [er] at this
        exact this
      · rw [if_neg (by omega)]
        have er : rr.2.1 = false := by rw [g2]
        rw [er, jth_ff]
        have e36 : jf rr.1 39 (C + 4275) 36 = k := by rw [g3.2 _ _ _ (by omega)]; exact b36
        rw [e36, W32_in (by omega) (by omega)]
        obtain ⟨u4, E4⟩ : ∃ u4, u4 = jp rr.1 39 (C + 4275) 36 (k + 1) := ⟨_, rfl⟩
        obtain ⟨f4, p4, -⟩ := jpF E4
        have R4 : cRW C rr.1 u4 := cRW.rfl.wr E4 (by omega)
        rw [← E4]
        refine .inl ⟨u4, qq.1, rfl, rfl, ⟨⟨(W1.trans g3.rw).trans R4, T1.trans g4.rw⟩, hr.rw (g3.rw.trans R4) g4.rw, ?_, ?_, ?_⟩, ⟨?_, p4⟩, ?_, fun a q0 q1 => ?_⟩
        · rw [show 300 * x + (k + 1) = 300 * x + k + 1 by omega]
          exact g5.st (fun o p => f4 _ _ _ (by omega)) fun _ _ => rfl
        · rw [f4 _ _ _ (by omega), g3.2 _ _ _ (by omega)]; exact a33
        · rw [g4.2 _ _ _ (by omega)]; exact a106
        · rw [f4 _ _ _ (by omega), g3.2 _ _ _ (by omega)]; exact b35
        · rw [g4.2 _ _ _ (by omega)]; exact b113
        · rw [f4 _ _ _ (by omega), g3.2 _ _ _ (by omega)]; exact brx a q0 q1
    · obtain ⟨⟨⟨W1, T1⟩, hr, hO, a33, a106⟩, ⟨b35, b36⟩, b113, brx⟩ := hj
      obtain ⟨hOb, hTb⟩ := hr.ob x0 x1 hS
      have hut : tUn w H x (O x) := (hr.1.2.2.2.2.2.1.1.2.2.1 x x0 x1 hS).2.1
      have n1 := hut.2.2.2.2.1
      refine ⟨u_X35_relocateAll_98 u (C + 4275) (nIn S x.toNat), u_X37_relocateAll_62 w H x, ?_, ?_, ?_⟩
      · show b_X35_relocateAll_41 u (C + 4275) (nIn S x.toNat) = _
        unfold b_X35_relocateAll_41
        rw [b35, jix_in x0 (by omega), Option.bind_some, show C + 4275 + -4000 + 4041 + 1858 * x = fAt C x by unfold fAt; omega, c_qCt hOb vo g, Option.bind_some, show qCt (O x) 2 = O x 2 2 0 from rfl, b36, if_neg (Int.lt_irrefl _)]
      · show b_X37_relocateAll_30 w H x (O x 2 2 0) = _
        unfold b_X37_relocateAll_30
        rw [jlt_in x0 x1, Option.bind_some, n1, if_neg (Int.lt_irrefl _)]
      · rw [eu_X35_relocateAll_98, eu_X37_relocateAll_62]; unfold du_X35_relocateAll_98 du_X37_relocateAll_62
        rw [W32_in (by omega) (by omega), W32_in (by omega) (by omega)]
        exact jE2_some.mpr (.inl ⟨_, _, rfl, rfl, ⟨W1, T1⟩, hr, hr.gap x0 x1 (.inr (Int.le_refl _)) v5 v6 hO, a33, a106⟩)
  · obtain ⟨⟨W1, T1⟩, hr, hO, a33, a106⟩ := hj
    refine ⟨?_, ⟨W1, T1⟩, hr, hr.gap (n := 0) x0 x1 (.inl hS) (by decide) (by decide) (by rw [Int.add_zero]; exact hO), a33, a106⟩
    show b_X37_relocateAll_6 w H x = _
    unfold b_X37_relocateAll_6
    rw [if_pos x1, t_isIn hr.1.2.2.2.2.2.1.1, if_neg hS, Option.bind_some, if_pos rfl, eu_X37_relocateAll_62]; unfold du_X37_relocateAll_62
    rw [W32_in (by omega) (by omega)]
  · obtain ⟨⟨W1, T1⟩, hr, hO, a33, a106⟩ := hj
    refine ⟨some (u, false, 0), some (w, 1), ?_, ?_, jE2_some.mpr (.inl ⟨rfl, rfl, ⟨W1, T1⟩, hr, hO, a33, a106⟩)⟩
    · show b_X35_relocateAll_2 u (C + 4275) (nIn S 6) = _
      unfold b_X35_relocateAll_2
      have r5 : jf u 39 (C + 4275) 5 = nIn S 6 := hr.1.2.2.2.2.2.1.1.2.1.1
      rw [r5, if_neg (Int.lt_irrefl _)]
    · show b_X37_relocateAll_6 w H 6 = _
      unfold b_X37_relocateAll_6
      rw [if_neg (by decide), Wz_1]
end jLra
