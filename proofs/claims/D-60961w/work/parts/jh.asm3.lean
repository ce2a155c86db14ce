/-! assembling, both sides *-/
set_option maxRecDepth 100000
section jAsm3h
variable {s t u w s1 t1 : jS} {a c k v x y z n A H b lo O f p ln : Int} {wg g : Int → Int} {NL : List (List Int)} {I : pI} {OL : List pvO} {SL : List pvS} {o : Int} {q : jS × Bool × Int} {r : jS}
theorem asX.fin {T U : Int} {w' : jS} (h2 : jf q.1 15 T 2 = 0) (hw : jf w 43 U 3 = 0) (h3 : ∀ k, k = 0 ∨ k = 1 ∨ k = 7 → jf q.1 15 T k = jf s 15 T k) (h4 : (jf q.1 15 T 5 = b ∧ jf q.1 15 T 6 = c ∧ ∀ a k, (3 ≤ a ∧ a ≤ 9 ∨ a = 16) → 0 ≤ k → k < kN a → jf w 1000 (U + a) (kN a + k) = jf t 1000 (U + a) (kN a + k)) ∨ (jf q.1 15 T 5 = c ∧ jf q.1 15 T 6 = b ∧ ∃ lo NL I OL SL, jn s ≤ lo ∧ bkP u c lo NL I OL SL ∧ bkR (fun a k => jf w 1000 (U + a) (kN a + k)) NL I OL SL ∧ bGd NL I OL SL)) (fu : ∀ k, jf u 15 T k = jf q.1 15 T k) (fw : jf w' 43 U 3 = jf w 43 U 3) (fb : ∀ a k, 3 ≤ a ∧ a ≤ 9 ∨ a = 16 → jf w' 1000 (U + a) k = jf w 1000 (U + a) k) : asX s u t w' T U b c := by
  refine ⟨by rw [fu, h2], by rw [fw, hw], fun k hk => by rw [fu]; exact h3 k hk, ?_⟩
  rcases h4 with ⟨a1, a2, a3⟩ | ⟨a1, a2, lo, NL, I, OL, SL, ha, a3, a4, a5⟩
  · exact .inl ⟨by rw [fu, a1], by rw [fu, a2], fun a k ha k0 k1 => by rw [fb a _ ha]; exact a3 a k ha k0 k1⟩
  · exact .inr ⟨by rw [fu, a1], by rw [fu, a2], lo, NL, I, OL, SL, ha, a3, a4.cg fun a j ha j0 j1 => fb a _ ha, a5⟩
theorem asm_core (h1 : cTx s (A + (-3890)) wg g n b c) (h2 : tdI t (H + 8) g n) (h3 : pWd s (A + (-4147)) ∧ pWl s (A + (-4147)) (A + (-3890))) (h4 : pRows t (H + 4 + 1)) (hC : pCon s) (hK : aKd s A) (hm : ∀ z, O ≤ z → z < O + 1858 → ¬ (jK s z = 62 ∨ jK s z = 63 ∨ jK s z = 9 ∨ 3000 ≤ jK s z)) (h38 : ∀ i, 0 ≤ i → i < 100 → jK s (A + 1 + 26 + 1 * i) = 38) (hJ : jTt s 33 O) (hL : cObL s (O + 1)) (hN1 : jN s (O + 1233) = 8193) (hN2 : jN s (O + 1230) = 8192) (hP : pTi t (H + 25)) (hA : A = O + 3872) (hn : A + 127 ≤ jn s ∧ 0 ≤ A + (-4148)) (hB : jBd s (40 * n + 3200) (5400 * n + 925000)) : asOut s t A H O b c n k := by
  have hTn := h1.2.2.2.1
  have bc := h1.2.2.2.2.2.2.2.2.1
  have n0 := h1.2.2.2.2.2.2.1.2
  have hbI := h1.2.2.2.2.2.2.2.2.2
  have hT15 := h1.1
  have hbg := h2.2.2.1
  obtain ⟨s1, e1, cl⟩ := c_clearA (s := s) (A := A)
  have cF1 : cFa A s s1 0 0 := cl.fa
  have js1 : jn s1 = jn s := cl.2.2.2.2.2.2.2.2.1
  have hT1 : cTx s1 (A + (-3890)) wg g n b c := h1.sm cl.2.2.2.2.2.2 fun e a k he => cl.2.2.2.2.2.1 _ _ _ (by omega) (by omega)
  have kA : ∀ z, (A ≤ z ∧ z ≤ A + 126 ∨ z = A + (-4147) + 24 ∨ z = A + (-4147) + 25) → jK s z < 3000 := fun z hz => by
    have nk := h3.2.2.2.2.1
    rcases hz with hz | hz | hz
    · have := hK z hz.1 hz.2; omega
    · rw [hz, nk.1]; omega
    · rw [hz, nk.2]; omega
  have hC1 : pCon s1 := hC.keep cF1 kA
  have hB1 : jBd s1 (40 * n + 3200) (5400 * n + 925000) := jGw.bd (p := 0) (q := 0) cF1 hB
  have fl := pvAll_fl hbg (n + 1).toNat 0 ((0, [], 0), [], [], []) (by show (n + 1 - 0).toNat ≤ _; omega) (Int.le_refl _) n0.1 (by show (0 : Int) ≤ 2000; omega)
  have gdd := fun z => pvAll_gd hbg (n + 1).toNat 0 ((0, [], 0), [], [], []) z (by show (n + 1 - 0).toNat ≤ _; omega) (Int.le_refl _) n0.1 (by show (0 : Int) ≤ 2000; omega) ⟨fun x hx => absurd hx List.not_mem_nil, fun x hx => absurd hx List.not_mem_nil, fun x hx => absurd hx List.not_mem_nil, fun x hx => absurd hx List.not_mem_nil⟩
  obtain ⟨q, e2, g1, g2, g3, g4⟩ := x_readT (lo := jn s1) hT1 hC1 (hB1.le (by omega) (by omega)) (by omega)
  have hr := y_readT h2
  have jnq := g1.1.1
  have G1 : jGw s q.1 (40 * n + 20) (5400 * n + 200) (asB s A c) := (jGw.trans (p := 0) (q := 0) cF1 g1 (fun a _ z => z.elim (fun z => .inr (.inl z)) .inl)).mono (by omega) (by omega) fun _ _ z => z
  have kB : ∀ z, rdX (A + (-3890)) c z → jK s1 z < 3000 := fun z hz => by
    have hb1 := hT1.2.2.2.2.2.2.2.2.2
    obtain ⟨⟨_, _, k0⟩, -, ⟨k1, -⟩, ⟨k2, -⟩, ⟨k3, -⟩, ⟨k4, -⟩, k5, -⟩ := hb1
    have kT := hT1.1.2.2
    unfold rdX at hz
    rcases hz with hz | hz
    · rw [hz, kT]; decide
    · have : z = c ∨ z = c + 1 ∨ z = c + 2 ∨ z = c + 3 ∨ z = c + 4 ∨ z = c + 5 := by omega
      rcases this with hz | hz | hz | hz | hz | hz <;> rw [hz] <;> omega
  have hBq : jBd q.1 1000 17000 := by
    unfold jBd at hB ⊢
    obtain ⟨z1, z2, z3, z4, z5, z6⟩ := G1.1
    omega
  have aTx : ∀ {r}, asT H t r → True := fun _ => trivial
  cases hpr : pvAll g n (n + 1).toNat 0 ((0, [], 0), [], [], []) with
  | inl e =>
    rw [hpr] at fl g4 hr
    obtain ⟨a1, a2, ⟨a3, a4⟩, a5, a6⟩ := g4
    obtain ⟨w, d1, d2, ⟨d3, d4, d5, d6⟩, d7⟩ := hr
    have f1 : 1 ≤ e.1 := fl
    left
    obtain ⟨q', r, i1, i2, i3, i4, i5, i6, i7, i8, i10, i9⟩ := asm_e (k := k) (n := n) e1 e2 a1 a2 a3 a4 (by omega) ⟨by omega, hBq.le (by omega) (by omega)⟩ ⟨by omega, by omega⟩ d1 d3 d4
    refine ⟨q', r, 0, i1, i2, i3, i4, ⟨e.1, e.2, by omega, i5, i6⟩, ?_, d2.as.trans i8, ?_⟩
    · have G2 : jGw s q'.1 (40 * n + 20 + 1) (5400 * n + 200 + 6) (asB s A c) := G1.trans i7 fun a _ z => z.elim id fun z => .inr (.inl z)
      exact G2.mono (by omega) (by omega) fun a _ z => z.elim .inl fun z => .inr (.inl z)
    · refine asX.fin (q := q) (w := w) g2 d6 (fun k hk => by rw [g3 k hk]; exact cl.2.2.2.2.2.1 _ _ _ (by omega) (by omega)) (.inl ⟨a5, a6, d7⟩) (fun k => i7.2.2 _ _ _ (by omega) (by omega)) ?_ fun a k ha => ?_
      · rw [i9, if_neg (by omega)]
      · exact i10 _ _ (by omega) (by omega)
  | inr z =>
    rw [hpr] at fl g4 hr
    have gd := gdd z hpr
    obtain ⟨a1, ⟨a3, a4⟩, ⟨a5, a6⟩, B⟩ := g4
    obtain ⟨w, d1, d2, ⟨d3, d4, d5, d6⟩, d7⟩ := hr
    obtain ⟨w1, j1, y⟩ := y_begin (t := w) (H := H)
    have fy := y.2.2.2.2.2.1
    obtain ⟨w2, W2⟩ : ∃ w2, w2 = jp w1 43 (H + 8) 0 0 := ⟨_, rfl⟩
    obtain ⟨y2, r2, -⟩ := jpF W2
    obtain ⟨w3', W3⟩ : ∃ w3, w3 = jp w2 41 H 42 0 := ⟨_, rfl⟩
    obtain ⟨y3, r3, -⟩ := jpF W3
    obtain ⟨w4', W4⟩ : ∃ w4, w4 = jp w3' 43 (H + 8) 0 0 := ⟨_, rfl⟩
    obtain ⟨y4, r4, -⟩ := jpF W4
    obtain ⟨w5, W5⟩ : ∃ w5, w5 = jp w4' 41 H 43 (-1) := ⟨_, rfl⟩
    obtain ⟨y5, r5, -⟩ := jpF W5
    have v42 : jf w5 41 H 42 = 0 := by rw [y5 _ _ _ (by omega), y4 _ _ _ (by omega), r3]
    have fw5 : ∀ c a k, ¬ (c = 41 ∧ a = H ∧ (k = 42 ∨ k = 43)) → ¬ (c = 43 ∧ a = H + 8 ∧ k = 0) → jf w5 c a k = jf w1 c a k := fun c a k q q' => by rw [y5 _ _ _ (by omega), y4 _ _ _ (by omega), y3 _ _ _ (by omega), y2 _ _ _ (by omega)]
    have as1 : asT H t w1 := d2.as.trans y.f.as
    have as5 : asT H t w5 := by
      have a2 : asT H t w2 := by rw [W2]; exact as1.jp (by omega)
      have a3 : asT H t w3' := by rw [W3]; exact a2.jp (by omega)
      have a4 : asT H t w4' := by rw [W4]; exact a3.jp (by omega)
      rw [W5]; exact a4.jp (by omega)
    -- the component's state
    obtain ⟨u0, E0⟩ : ∃ u0, u0 = jp q.1 37 A 33 0 := ⟨_, rfl⟩
    obtain ⟨f0, p0, -⟩ := jpF E0
    have cF0 : cFa A q.1 u0 0 0 := cFa.rfl.wr E0 (by omega)
    have G0 : jGw s u0 (40 * n + 20) (5400 * n + 200) (asB s A c) := (G1.trans cF0 (fun a _ z => z.elim id fun z => .inr (.inl z)) : jGw s u0 (40 * n + 20 + 0) (5400 * n + 200 + 0) (asB s A c)).mono (by omega) (by omega) fun _ _ z => z
    obtain ⟨wd1, wl1⟩ := h3.1.gl h3.2 cF1 fun z hz => by
      have nk := h3.2.2.2.2.1
      rcases hz with hz | hz | hz
      · left; omega
      · right; rw [hz]; exact ⟨nk.1, .inl rfl⟩
      · right; rw [hz]; exact ⟨nk.2, .inr rfl⟩
    obtain ⟨wd2, wl2⟩ := wd1.gl wl1 g1 fun z hz => .inl (by unfold rdX at hz; omega)
    have Cq : cCx q.1 A c (jn s1) z.1.2.1 z.2.1 z.2.2.1 z.2.2.2 := ⟨⟨a5, B⟩, ⟨wd2, wl2⟩, hC1.keep g1 kB, ⟨hn.2, by omega, by omega, by omega, by omega, by rw [G1.K (by omega)]; exact hT15.2.2⟩, fun x x0 x1 => by rw [G1.K (by omega)]; exact hK x x0 x1, gd⟩
    have C0 := Cq.keep cF0
    have T5 : tCx w5 H z.1.2.1 z.2.1 z.2.2.1 z.2.2.2 := by
      refine ⟨⟨?_, d7.cg fun a j ha j0 j1 => ?_⟩, fun j j0 j1 => ?_⟩
      · rw [y5 _ _ _ (by omega)]; exact r4
      · rw [fw5 _ _ _ (by omega) (by omega), fy _ _ _ (by omega) (by omega)]
      · rw [as5.2 _ _ _ (by omega) (by omega) (by omega) (by omega) (by omega) (by omega) (by omega)]; exact h4 j j0 j1
    have L0 : LI u0 w5 A H c (jn s1) z.1.2.1 z.2.1 z.2.2.1 z.2.2.2 0 := clr_LI C0 T5 (jGw.bd (p := 0) (q := 0) cF0 (hBq.le (by omega) (by omega))) cl y (fun c' a k hh => by
      rw [f0 _ _ _ (by omega)]
      exact g1.2.2 _ _ _ (by omega) (by unfold rdX; omega)) (fun c' a k hh => by
      by_cases c42 : c' = 41 ∧ a = H ∧ k = 42
      · obtain ⟨rfl, rfl, rfl⟩ := c42
        rw [v42, y.2.2.2.1 42 (by omega)]
      · exact fw5 _ _ _ (by omega) (by omega)) p0
    have hP5 : pTi w5 (H + 25) := hP.keep fun a k e => as5.2 _ _ _ (by omega) (by omega) (by omega) (by omega) (by omega) (by omega) (by omega)
    have ec : m_X33_assemble s A = u_X33_assemble_50 u0 A n := by
      rw [em_X33_assemble]; unfold dm_X33_assemble
      rw [e1, Option.bind_some]
      dsimp only
      rw [e2, Option.bind_some, a1]
      dsimp only
      rw [jth_ff, jls_e, ← E0, hTn]
    have ey : yAs t H k n = (m_X37_statements w5 H).bind fun q8 => if q8.2 = 0 then u_X37_assemble_109 q8.1 H k 0 else (m_X37_makeObject q8.1 H).bind fun q9 => (m_X40_write q9.1 (H + 25)).bind fun q10 => if q10.2 < 0 then (m_X37_fail_2 q10.1 H 20 n).bind fun q11 => u_X37_assemble_109 q11.1 H k q10.2 else u_X37_assemble_109 q10.1 H k q10.2 := by
      unfold yAs
      rw [d1, Option.bind_some]
      dsimp only
      rw [j1, Option.bind_some]
      dsimp only
      rw [(y_fault39 (H + 8)).1, Option.bind_some, fy 43 _ _ (by omega) (by omega), d3]
      dsimp only
      rw [jls_e, ← W2, ← W3, (y_fault39 (H + 8)).2, Option.bind_some]
      dsimp only
      rw [jls_e, ← W4, y3 43 _ _ (by omega), y2 43 _ _ (by omega), fy 43 _ _ (by omega) (by omega), d4, ← W5, v42, if_pos rfl]
    have bx : ∀ (u' : jS), jGw u0 u' 601 15006 (fun z => ((A ≤ z ∧ z ≤ A + 126 ∨ z = A + (-4147) + 24 ∨ z = A + (-4147) + 25) ∨ jK u0 z = 9) ∨ rgM O z) → asF s u' A O c n := fun u' gu => by
      have G2 : jGw s u' (40 * n + 20 + 601) (5400 * n + 200 + 15006) (fun z => (z = A + (-3890) ∨ c ≤ z ∧ z ≤ c + 5) ∨ ((A ≤ z ∧ z ≤ A + 126 ∨ z = A + (-4147) + 24 ∨ z = A + (-4147) + 25) ∨ jK s z = 9) ∨ (O ≤ z ∧ z < O + 1858)) := G0.trans gu fun a ha z => by
        rcases z with z | z
        · rcases z with z | z
          · exact .inl z
          · exact .inr (.inl z)
        · rcases z with (z | z) | z
          · exact .inr (.inl (.inl z))
          · rw [G0.K ha] at z; exact .inr (.inl (.inr z))
          · exact .inr (.inr z)
      exact G2.mono (by omega) (by omega) fun a _ z => z
    have jn0 := cF0.1.1
    have hm0 : ∀ z, O ≤ z → z < O + 1858 → ¬ (jK u0 z = 62 ∨ jK u0 z = 63 ∨ jK u0 z = 9 ∨ 3000 ≤ jK u0 z) := fun z z0 z1 => by rw [G0.K (by omega)]; exact hm z z0 z1
    have nB : ∀ z, O ≤ z → z < O + 1858 → ¬ asB s A c z := fun z z0 z1 q => by
      have := hm z z0 z1
      unfold asB at q
      omega
    have fcu : ∀ u', jGw u0 u' 601 15006 (fun z => ((A ≤ z ∧ z ≤ A + 126 ∨ z = A + (-4147) + 24 ∨ z = A + (-4147) + 25) ∨ jK u0 z = 9) ∨ rgM O z) → ∀ k, jf u' 15 (A + (-3890)) k = jf q.1 15 (A + (-3890)) k := fun u' gu k => by
      have k15 : jK u0 (A + (-3890)) = 15 := by rw [G0.K (by omega)]; exact hT15.2.2
      rw [gu.2.2 _ _ _ (by omega) (fun q => by unfold rgM at q; omega), f0 _ _ _ (by omega)]
    have fxx : ∀ u' r, jGw u0 u' 601 15006 (fun z => ((A ≤ z ∧ z ≤ A + 126 ∨ z = A + (-4147) + 24 ∨ z = A + (-4147) + 25) ∨ jK u0 z = 9) ∨ rgM O z) → asT H w5 r → bkP u' c (jn s1) z.1.2.1 z.2.1 z.2.2.1 z.2.2.2 → ((∀ k, jf r 43 (H + 8) k = jf w5 43 (H + 8) k) ∧ ∀ a k, H + 9 ≤ a → a ≤ H + 24 → jf r 1000 a k = jf w5 1000 a k) → asX s u' t r (A + (-3890)) (H + 8) b c := fun u' r gu ar bk rk => by
      refine asX.fin (q := q) (w := w) g2 d6 (fun k hk => by rw [g3 k hk]; exact cl.2.2.2.2.2.1 _ _ _ (by omega) (by omega)) (.inr ⟨?_, ?_, jn s1, z.1.2.1, z.2.1, z.2.2.1, z.2.2.2, by omega, bk, d7, gd⟩) (fcu u' gu) ?_ fun a k ha => ?_
      · exact a5
      · exact a6
      · rw [rk.1, fw5 _ _ _ (by omega) (by omega), fy _ _ _ (by omega) (by omega)]
      · rw [rk.2 _ _ (by omega) (by omega), fw5 _ _ _ (by omega) (by omega), fy _ _ _ (by omega) (by omega)]
    rcases asm_s (k := k) (n := n) L0 G0 hm h38 hJ hL hN1 hN2 hP5 hA (by omega) (by omega) (by omega) (jGw.bd (p := 0) (q := 0) cF0 (hBq.le (by omega) (by omega))) with ⟨q', r, x, i1, i2, i3, i4, i5, i6, i7, i8, i9⟩ | ⟨u', r, m, i1, i2, i3, i4, i6, i7, i8, i9⟩
    · left
      exact ⟨q', r, x, ec.trans i1, ey.trans i2, i3, i4, i5, bx _ i6, as5.trans i7, fxx _ _ i6 i7 i8 i9⟩
    · right
      exact ⟨u', r, m, ec.trans i1, ey.trans i2, i3, i4, bx _ i6, as5.trans i7, fxx _ _ i6 i7 i8 i9⟩
end jAsm3h
