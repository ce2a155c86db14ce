/-! the linker: a symbol's global, the component -/
set_option maxRecDepth 100000
section jGfor
variable {s t u w r q' : jS} {a b g k m n p v l x y z c j X f i H C P Q P' Q' S : Int} {O : Int → Int → Int → Int → Int} {d e : Int → Int → Int} {E : Int → Int}
/-- globals' rows alone -/
def gW (C : Int) (s u : jS) : Prop := jSm s u ∧ ∀ c a k, ¬ (c = 39 ∧ a = C + 4275 ∧ k = 20) → ¬ (c = 1000 ∧ C + 4275 + 14 ≤ a ∧ a ≤ C + 4275 + 24) → jf u c a k = jf s c a k
theorem gW.rfl : gW C s s := ⟨jSm.rfl, fun _ _ _ _ _ => Eq.refl _⟩
theorem gW.trans (h : gW C s u) (g : gW C u w) : gW C s w := ⟨h.1.trans g.1, fun c a k q1 q2 => (g.2 c a k q1 q2).trans (h.2 c a k q1 q2)⟩
theorem gW.wr {v2 : jS} (h : gW C s u) (e : v2 = jp u c a k x) (hc : c = 39 ∧ a = C + 4275 ∧ k = 20 ∨ c = 1000 ∧ C + 4275 + 14 ≤ a ∧ a ≤ C + 4275 + 24) : gW C s v2 := ⟨by rw [e]; exact h.1.jp, fun c' a' k' q1 q2 => by
  rw [e, jf_neg (by omega)]; exact h.2 c' a' k' q1 q2⟩
theorem gW.lf (h : gW C s u) : cLF C s u 0 0 := by
  obtain ⟨⟨m1, m2, m3, m4, m5, m6, m7⟩, F⟩ := h
  refine ⟨⟨⟨by omega, by omega, by omega, m5, m6, m7⟩, fun a ha => by rw [m1, m2]; exact ⟨Eq.refl _, Eq.refl _⟩, fun c a k ha hA => F c a k (fun z => hA (.inr (.inl (by omega)))) (fun z => hA (.inr (.inl (by omega))))⟩, fun c a k q => F c a k (by omega) (by omega), fun q => q.cg (by omega) (fun _ _ => by rw [m1]) fun c a k z => F c a k (by omega) (by omega)⟩
theorem lkB.gw (h : lkB C H S O s t) (g : gW C s u) : lkB C H S O u t := h.kp (by rw [g.1.2.2.1]; exact Int.le_refl _) (fun a a0 a1 => ⟨by rw [g.1.1], by rw [g.1.2.1], fun c k => g.2 _ _ _ (by omega) (by omega)⟩) (g.2 _ _ _ (by omega) (by omega)) (fun k => g.2 _ _ _ (by omega) (by omega)) (fun _ _ _ _ _ => rfl) rfl rfl
theorem gRc.cg (h : gRc C S O s n e) (F : ∀ x, x < n → jf u 1000 (C + 4275 + 14) x = jf s 1000 (C + 4275 + 14) x ∧ jf u 1000 (C + 4275 + 24) x = jf s 1000 (C + 4275 + 24) x) (F2 : ∀ a k, C + 4275 + 15 ≤ a → a ≤ C + 4275 + 23 → jf u 1000 a k = jf s 1000 a k) (F3 : jf u 39 (C + 4275) 20 = jf s 39 (C + 4275) 20) : gRc C S O u n e := by
  obtain ⟨h1, h2, h3, h4⟩ := h
  refine ⟨by rw [F3]; exact h1, fun x x1 hx => by rw [(F x x1).1, (F x x1).2]; exact h2 x x1 hx, fun g g0 g1 => ?_, fun g g0 g1 => by rw [F2 _ _ (by omega) (by omega), F2 _ _ (by omega) (by omega)]; exact h4 g g0 g1⟩
  rw [F2 _ _ (by omega) (by omega), F2 _ _ (by omega) (by omega), F2 _ _ (by omega) (by omega), F2 _ _ (by omega) (by omega), F2 _ _ (by omega) (by omega), F2 _ _ (by omega) (by omega)]
  exact h3 g g0 g1
theorem c_gfor (h : lkB C H S O s t) (hg : gRc C S O s x e) (hV : gVd S O x e) (hx : gsy S O x) : ∃ g, isF O e x g ∧ jE (m_X35_globalFor s (C + 4275) (x / 100) (x % 100)) fun r => r.2 = g ∧ gRc C S O r.1 x (gAd e x g) ∧ gW C s r.1 ∧ ∀ k, jf r.1 1000 (C + 4275 + 14) k = jf s 1000 (C + 4275 + 14) k ∧ jf r.1 1000 (C + 4275 + 24) k = jf s 1000 (C + 4275 + 24) k := by
  obtain ⟨x1, x2, ⟨x3, x4, x5, x6⟩, x7, -⟩ := h.sym hx.1
  obtain ⟨⟨n0, n1⟩, v2, v3⟩ := hV
  have hx6 := hx.1.1
  obtain ⟨g1, g2, g3, g4⟩ := id hg
  rw [em_X35_globalFor]; unfold dm_X35_globalFor
  rw [eu_X35_globalFor_2]; unfold du_X35_globalFor_2
  have st : ∀ j, 0 ≤ j → j < e 0 0 → (¬ sameNm (sy O (e 2 j)) (sy O x) → b_X35_globalFor_2 s (C + 4275) (x / 100) (x % 100) j = some (.inl (s, [C + 4275, x / 100, x % 100, j + 1]))) ∧ (sameNm (sy O (e 2 j)) (sy O x) → b_X35_globalFor_2 s (C + 4275) (x / 100) (x % 100) j = jinr (some (s, j))) := fun j j0 j1 => by
    obtain ⟨⟨hy, -⟩, -⟩ := v2 j j0 j1
    obtain ⟨y1, y2, ⟨y3, y4, y5, y6⟩, y7, -⟩ := h.sym hy.1
    obtain ⟨⟨a1, a2⟩, -⟩ := g3 j j0 j1
    obtain ⟨r, er, r0, r1⟩ := c_is y2.2.2.2.2.2 x2.2.2.2.2.2 y7.2.2.2.2.2.2.2.2.2.1 x6
    unfold b_X35_globalFor_2
    rw [g1, if_pos j1, jlt_in j0 (by omega), Option.bind_some, a1, jlt_in j0 (by omega), Option.bind_some, a2, y1, Option.bind_some, jrd_in y3 y4, Option.bind_some, y5, x1, Option.bind_some, jrd_in x3 x4, Option.bind_some, x5, jct_in y6, er, Option.bind_some, W32_in (by omega) (by omega)]
    refine ⟨fun hn => ?_, fun hn => ?_⟩
    · rw [if_pos (by
        rcases r0 with z | z
        · exact z
        · exact absurd (r1.mp z) hn)]
    · rw [if_neg (by have := r1.mpr hn; omega)]
  rcases jseekW (C := jc4 b_X35_globalFor_2) (s := s) (fun j => [C + 4275, x / 100, x % 100, j]) (fun j => sameNm (sy O (e 2 j)) (sy O x)) (fun j => some (s, j)) (u_X35_globalFor_52 s (C + 4275) (x / 100) (x % 100)) 0 (e 0 0) n0 (fun j j0 j1 hj => (st j j0 j1).1 hj) (fun j j0 j1 hj => (st j j0 j1).2 hj) (by
      show b_X35_globalFor_2 s (C + 4275) (x / 100) (x % 100) (e 0 0) = _
      unfold b_X35_globalFor_2
      rw [g1, if_neg (Int.lt_irrefl _)]) with ⟨j, j0, j1, hj, hm, ej⟩ | ⟨hm, ej⟩
  · refine ⟨j, ⟨⟨j0, by omega⟩, fun i i0 i1 => hm i i0 i1, fun _ => hj⟩, ?_⟩
    rw [ej]
    have e0 : gAd e x j = e := by
      funext f k
      exact gAd_no (by omega)
    exact jS_end ⟨rfl, by rw [e0]; exact hg, gW.rfl, fun _ => ⟨rfl, rfl⟩⟩
  · refine ⟨e 0 0, ⟨⟨n0, Int.le_refl _⟩, fun i i0 i1 => hm i i0 i1, fun z => absurd z (Int.lt_irrefl _)⟩, ?_⟩
    rw [ej, eu_X35_globalFor_52]; unfold du_X35_globalFor_52
    rw [g1]
    obtain ⟨G, hG⟩ : ∃ G, G = e 0 0 := ⟨_, rfl⟩
    rw [← hG]
    rw [jst_in (by omega) (by omega), Option.bind_some]
    obtain ⟨y1, Y1⟩ : ∃ y1, y1 = jp s 1000 (C + 4275 + 15) G (x / 100) := ⟨_, rfl⟩
    obtain ⟨f1, p1, -⟩ := jpF Y1
    rw [← Y1, jst_in (by omega) (by omega), Option.bind_some]
    obtain ⟨y2, Y2⟩ : ∃ y2, y2 = jp y1 1000 (C + 4275 + 16) G (x % 100) := ⟨_, rfl⟩
    obtain ⟨f2, p2, -⟩ := jpF Y2
    rw [← Y2, jst_in (by omega) (by omega), Option.bind_some]
    obtain ⟨y3, Y3⟩ : ∃ y3, y3 = jp y2 1000 (C + 4275 + 17) G 4 := ⟨_, rfl⟩
    obtain ⟨f3, p3, -⟩ := jpF Y3
    rw [← Y3, jst_in (by omega) (by omega), Option.bind_some]
    obtain ⟨y4, Y4⟩ : ∃ y4, y4 = jp y3 1000 (C + 4275 + 18) G (-1) := ⟨_, rfl⟩
    obtain ⟨f4, p4, -⟩ := jpF Y4
    rw [← Y4, jst_in (by omega) (by omega), Option.bind_some]
    obtain ⟨y5, Y5⟩ : ∃ y5, y5 = jp y4 1000 (C + 4275 + 20) G 0 := ⟨_, rfl⟩
    obtain ⟨f5, p5, -⟩ := jpF Y5
    rw [← Y5, jst_in (by omega) (by omega), Option.bind_some]
    obtain ⟨y6, Y6⟩ : ∃ y6, y6 = jp y5 1000 (C + 4275 + 21) G 1 := ⟨_, rfl⟩
    obtain ⟨f6, p6, -⟩ := jpF Y6
    rw [← Y6, jst_in (by omega) (by omega), Option.bind_some]
    obtain ⟨y7, Y7⟩ : ∃ y7, y7 = jp y6 1000 (C + 4275 + 23) G (-1) := ⟨_, rfl⟩
    obtain ⟨f7, p7, -⟩ := jpF Y7
    rw [← Y7, f7 39 _ 20 (by omega), f6 39 _ 20 (by omega), f5 39 _ 20 (by omega), f4 39 _ 20 (by omega), f3 39 _ 20 (by omega), f2 39 _ 20 (by omega), f1 39 _ 20 (by omega), g1, ← hG, W32_in (by omega) (by omega)]
    obtain ⟨y8, E_y8⟩ : ∃ y8, y8 = jp y7 39 (C + 4275) 20 (G + 1) := ⟨_, rfl⟩
    obtain ⟨f_y8, p_y8, -⟩ := jpF E_y8
    rw [jls_e, ← E_y8]
    have W8 : gW C s y8 := (((((((gW.rfl.wr Y1 (by omega)).wr Y2 (by omega)).wr Y3 (by omega)).wr Y4 (by omega)).wr Y5 (by omega)).wr Y6 (by omega)).wr Y7 (by omega)).wr E_y8 (by omega)
    have FY : ∀ a k, ¬ k = G → jf y8 1000 a k = jf s 1000 a k := fun a k q => by
      rw [f_y8 _ _ _ (by omega), f7 _ _ _ (by omega), f6 _ _ _ (by omega), f5 _ _ _ (by omega), f4 _ _ _ (by omega), f3 _ _ _ (by omega), f2 _ _ _ (by omega), f1 _ _ _ (by omega)]
    have FZ : ∀ k, jf y8 1000 (C + 4275 + 14) k = jf s 1000 (C + 4275 + 14) k ∧ jf y8 1000 (C + 4275 + 24) k = jf s 1000 (C + 4275 + 24) k := fun k => by
      constructor <;> rw [f_y8 _ _ _ (by omega), f7 _ _ _ (by omega), f6 _ _ _ (by omega), f5 _ _ _ (by omega), f4 _ _ _ (by omega), f3 _ _ _ (by omega), f2 _ _ _ (by omega), f1 _ _ _ (by omega)]
    have A1 : ∀ k, gAd e x G 1 k = e 1 k := fun k => gAd_no (by omega)
    refine jS_end ⟨rfl, ⟨?_, fun k k1 hk => ?_, fun g g0 gl => ?_, fun g g0 gl => ?_⟩, W8, FZ⟩
    · rw [gAd_0 (by omega), if_pos hG]; exact p_y8
    · rw [(FZ k).1, (FZ k).2, A1]; exact g2 k k1 hk
    · rw [gAd_0 (by omega), if_pos hG] at gl
      by_cases c : g = G
      · rw [c, gAd_2 hG, gAd_3 hG]
        refine ⟨⟨?_, ?_⟩, ?_, fun z => absurd z (by decide), ?_⟩
        · rw [f_y8 _ _ _ (by omega), f7 _ _ _ (by omega), f6 _ _ _ (by omega), f5 _ _ _ (by omega), f4 _ _ _ (by omega), f3 _ _ _ (by omega), f2 _ _ _ (by omega)]; exact p1
        · rw [f_y8 _ _ _ (by omega), f7 _ _ _ (by omega), f6 _ _ _ (by omega), f5 _ _ _ (by omega), f4 _ _ _ (by omega), f3 _ _ _ (by omega)]; exact p2
        · rw [f_y8 _ _ _ (by omega), f7 _ _ _ (by omega), f6 _ _ _ (by omega), f5 _ _ _ (by omega), f4 _ _ _ (by omega)]; exact p3
        · rw [f_y8 _ _ _ (by omega)]; exact p7
      · rw [FY _ _ c, FY _ _ c, FY _ _ c, FY _ _ c, FY _ _ c, FY _ _ c, gAd_no (f := 2) (by omega), gAd_no (f := 3) (by omega), gAd_no (f := 4) (by omega)]
        exact g3 g g0 (by omega)
    · rw [gAd_0 (by omega), if_pos hG] at gl
      have e1 : gAd e x G 1 = e 1 := funext A1
      rw [e1]
      by_cases c : g = G
      · obtain ⟨z1, z2⟩ := cm_no (S := S) (O := O) (E := e 1) (g := G) x.toNat fun k k0 k1 hk => by
          have := v3 k (by omega) hk; omega
        rw [c, z1, z2]
        constructor
        · rw [f_y8 _ _ _ (by omega), f7 _ _ _ (by omega), f6 _ _ _ (by omega)]; exact p5
        · rw [f_y8 _ _ _ (by omega), f7 _ _ _ (by omega)]; exact p6
      · rw [FY _ _ c, FY _ _ c]; exact g4 g g0 (by omega)
end jGfor
