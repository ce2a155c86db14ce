/-! the linker: laid out, settled, sized, both sides -/
set_option maxRecDepth 100000
section jLal2
variable {s t u w s0 t0 : jS} {a b k m n o p v l x c f g i j H B C S K X : Int} {O : Int → Int → Int → Int → Int} {d e z y : Int → Int → Int} {G : Int → Int}
/-- a slot of the twin's that has no part in it -/
theorem LYD.t41 (h : LYD C H S O s0 t0 s t e d z y) (E : w = jp t 41 H k v) (hk : 102 ≤ k ∧ k ≤ 105 ∨ k = 108) : LYD C H S O s0 w s w e d z y := by
  obtain ⟨⟨v1, v2, v3⟩, ⟨p1, p2⟩, ⟨G, r1, r2, r3⟩, ⟨hk1, ⟨g1, g2, g3⟩, ⟨w1, w2, w3⟩, hcd⟩, b1, -, hT⟩ := h
  obtain ⟨F, -, -⟩ := jpF E
  exact ⟨⟨v1, v2, v3.fr fun c a k q => F _ _ _ (by omega)⟩, ⟨p1, p2.cg fun a k a0 a1 => F _ _ _ (by omega)⟩, ⟨G, r1.fr fun k => F _ _ _ (by omega), fun g g0 g1 g2 => by rw [F _ _ _ (by omega)]; exact r2 g g0 g1 g2, r3⟩, ⟨hk1.kp (Int.le_refl _) (fun _ _ _ => ⟨rfl, rfl, fun _ _ => rfl⟩) rfl (fun _ => rfl) (fun c a k a0 a1 => F _ _ _ (by omega)) (F _ _ _ (by omega)) (F _ _ _ (by omega)), ⟨g1, g2.cg (fun a k a0 a1 a2 => F _ _ _ (by omega)) (F _ _ _ (by omega)), g3⟩, ⟨w1, w2.at (funext fun k => F _ _ _ (by omega)), w3⟩, hcd⟩, b1, tBW.rfl, hT⟩
theorem tLF.w41 (h : tLF H t u) (E : w = jp u 41 H k v) (hk : 99 ≤ k ∧ k ≤ 101 ∨ 104 ≤ k ∧ k ≤ 116) : tLF H t w := ⟨h.1.wr E, fun c a k' q1 q2 q3 q4 => by
  obtain ⟨F, -, -⟩ := jpF E
  rw [F _ _ _ (by omega)]; exact h.2 c a k' q1 q2 q3 q4⟩
theorem t_sizedL (ho : ∀ o, 0 ≤ o → o < 4 → jf t 1000 (H + 93 + 2) o = ouB d o ∧ jf t 1000 (H + 93 + 3) o = ouE d o) (v : vLy d) : (¬ bgD d → u_X37_layAll_101 t H 0 = some (t, 1)) ∧ (bgD d → ∀ w, m_X37_refuse t H 6 (-1) (-1) = some (w, 0) → u_X37_layAll_101 t H 0 = some (w, 0)) := by
  have st : ∀ o, 0 ≤ o → o < 3 → b_X37_layAll_101 t H o = if 4096 < ouE d o - ouB d o then jinr (u_X37_layAll_131 t H) else some (.inl (t, [H, o + 1])) := fun o o0 o1 => by
    have b1 := ouB_lo v o0 (by omega)
    have b2 := ouE_lo v o0 (by omega)
    obtain ⟨q1, q2⟩ := ho o o0 (by omega)
    have J3 : jlt t 1000 (H + 93 + 3) 4 o = some (ouE d o) := by rw [jlt_in o0 (by omega), q2]
    have J2 : jlt t 1000 (H + 93 + 2) 4 o = some (ouB d o) := by rw [jlt_in o0 (by omega), q1]
    unfold b_X37_layAll_101
    rw [if_pos o1, J3, J2, Option.bind_some, Option.bind_some, W32_in (by omega) (by omega), W32_in (by omega) (by omega)]
  have e101 : u_X37_layAll_101 t H 0 = jlpW (jc2 b_X37_layAll_101) [H, 0] t := by rw [eu_X37_layAll_101]; rfl
  rw [e101]
  rcases jseekW (C := jc2 b_X37_layAll_101) (s := t) (fun o => [H, o]) (fun o => 4096 < ouE d o - ouB d o) (fun _ => u_X37_layAll_131 t H) (u_X37_layAll_146 t H) 0 3 (by decide) (fun o o0 o1 hk => by
    show b_X37_layAll_101 t H o = _
    rw [st o o0 o1, if_neg hk]) (fun o o0 o1 hk => by
    show b_X37_layAll_101 t H o = _
    rw [st o o0 o1, if_pos hk]) (by
    show b_X37_layAll_101 t H 3 = _
    unfold b_X37_layAll_101; rw [if_neg (by decide)]) with ⟨o, o0, o1, hk, -, er⟩ | ⟨hn, er⟩
  · rw [er, eu_X37_layAll_131]; unfold du_X37_layAll_131
    exact ⟨fun q => absurd (.inl ⟨o, o0, o1, hk⟩) q, fun _ w hw => by rw [hw, Option.bind_some, Wz_0]⟩
  · have b1 := ouE_lo v (o := 2) (by decide) (by decide)
    have b2 := ouE_lo v (o := 3) (by decide) (by decide)
    have b3 := ouB_lo v (o := 2) (by decide) (by decide)
    have b4 := ouB_lo v (o := 3) (by decide) (by decide)
    have J3 : jlt t 1000 (H + 93 + 3) 4 3 = some (ouE d 3) := by rw [jlt_in (by decide) (by decide), (ho 3 (by decide) (by decide)).2]
    have J2 : jlt t 1000 (H + 93 + 3) 4 2 = some (ouE d 2) := by rw [jlt_in (by decide) (by decide), (ho 2 (by decide) (by decide)).2]
    rw [er, eu_X37_layAll_146]; unfold du_X37_layAll_146
    rw [J3, J2, Option.bind_some, Option.bind_some, W32_in (by omega) (by omega)]
    by_cases c : 32768 < ouE d 3 - ouE d 2
    · rw [if_pos c]
      exact ⟨fun q => absurd (.inr c) q, fun _ w hw => by rw [hw, Option.bind_some, if_pos rfl, Wz_0]⟩
    · rw [if_neg c]
      refine ⟨fun _ => by rw [Wz_1], fun q => ?_⟩
      rcases q with ⟨o, o0, o1, q⟩ | q
      · exact absurd q (hn o o0 o1)
      · exact absurd q c
/-- what laying all out leaves, where the component goes on -/
def laQ (C H S : Int) (O : Int → Int → Int → Int → Int) (s t : jS) (e : Int → Int → Int) (E : Int) (r : Option (jS × Bool × Int)) (q : jS × Int) : Prop := (q.2 = 0 ∧ ∃ r', r = some r' ∧ lkX C H s t 838 6669 r' q.1) ∨ (q.2 = 1 ∧ ∃ s' d z G y0, r = u_X35_link_58 s' (C + 4275) E y0 0 ∧ LZD C H S O s' q.1 e d z G ∧ (wrS C H s' q.1 ∧ cKdl C s') ∧ cLF C s s' 837 6663 ∧ tLF H t q.1 ∧ (jf q.1 41 H 104 = y0 ∧ jf q.1 41 H 105 = svK d (d 0 1).toNat) ∧ jf s' 39 (C + 4275) 33 = jf s 39 (C + 4275) 33 ∧ ∀ k, k = 106 ∨ k = 100 ∨ k = 101 → jf q.1 41 H k = jf t 41 H k)
theorem la_rest {y0 : Int} (h : LYD C H S O s0 t0 s t e d z y) (hb : jBd s0 838 6669) (E : Int) : ∃ q, u_X37_layAll_28 t H y0 H = some q ∧ laQ C H S O s0 t0 e E (u_X35_link_45 s (C + 4275) E y0) q := by
  rw [eu_X37_layAll_28, eu_X35_link_45]; unfold du_X37_layAll_28 du_X35_link_45
  obtain ⟨w1, E_w1⟩ : ∃ w1, w1 = jp t 41 H 104 y0 := ⟨_, rfl⟩
  obtain ⟨f_w1, p_w1, -⟩ := jpF E_w1
  rw [jls_e, ← E_w1]
  have L1 := h.t41 E_w1 (by omega)
  have T1 : tLF H t0 w1 := h.2.2.2.2.2.1.lf.w41 E_w1 (by omega)
  obtain ⟨r, q, er, eq, h1, h2, h3, ⟨h4, h5⟩, h6⟩ := jE2_get (x_lacksJ L1)
  have T2 : tLF H t0 q.1 := T1.trans h3.2.2.2.2.2.1.lf
  have P1 := h3.2.2.2.2.2.2.2.2
  have C1 : cLF C s0 r.1 837 6663 := h3.2.2.2.2.1.lf P1
  have v := h3.1.1
  have v1 := v.2.1
  obtain ⟨hk, -, hw, hcd⟩ := id h3.2.2.2.1
  have hC := hk.1
  have bd : jBd r.1 1 6 := by
    obtain ⟨a1, a2, a3, a4, a5, -⟩ := C1.1.1
    exact ⟨by have := hb.1; omega, by have := hb.2; omega⟩
  have ht := hk.2.2.2.2.2
  rw [eq, Option.bind_some, em_X35_lacking]; unfold dm_X35_lacking
  rw [er, Option.bind_some, h1]
  by_cases c : q.2 = -1
  · rw [if_pos c, if_pos c, t_saved h3.1.2.2 v, Option.bind_some]
    obtain ⟨w2, E_w2⟩ : ∃ w2, w2 = jp q.1 41 H 105 (svK d (d 0 1).toNat) := ⟨_, rfl⟩
    obtain ⟨f_w2, p_w2, -⟩ := jpF E_w2
    rw [jls_e, ← E_w2]
    have L2 := h3.t41 E_w2 (by omega)
    have q2 : tLq w2 (H + 93) d := h6.cg2 fun a k a0 a1 => f_w2 _ _ _ (by omega)
    have lo := ouB_lo v (o := 2) (by decide) (by decide)
    have J2 : jlt w2 1000 (H + 93 + 2) 4 2 = some (ouB d 2) := by rw [jlt_in (by decide) (by decide), (q2.2.2 2 (by decide) (by decide)).1]
    rw [J2, Option.bind_some, W32_in (by omega) (by omega)]
    obtain ⟨w3, E_w3⟩ : ∃ w3, w3 = jp w2 41 H 108 (ouB d 2 + 2048) := ⟨_, rfl⟩
    obtain ⟨f_w3, p_w3, -⟩ := jpF E_w3
    rw [jls_e, ← E_w3]
    have L3 := L2.t41 E_w3 (by omega)
    have q3 : tLq w3 (H + 93) d := q2.cg2 fun a k a0 a1 => f_w3 _ _ _ (by omega)
    have T3 : tLF H t0 w3 := (T2.w41 E_w2 (by omega)).w41 E_w3 (by omega)
    obtain ⟨z1, z2⟩ := t_sizedL (t := w3) (H := H) q3.2.2 v
    have ht3 : jf w3 41 H 99 = 0 := by rw [f_w3 _ _ _ (by omega), f_w2 _ _ _ (by omega)]; exact ht
    rw [Option.bind_some, jth_ff]
    rcases c_sized h4 h5 v with ⟨nb, es⟩ | ⟨yb, es⟩
    · rw [z1 nb, es, Option.bind_some, jth_ff]
      obtain ⟨G, r1, r2, r3⟩ := L3.2.2.1
      obtain ⟨hk3, hg3, hw3, hcd3⟩ := L3.2.2.2.1
      refine ⟨_, rfl, .inr ⟨rfl, r.1, d, z, G, y0, rfl, ⟨v, ⟨h3.1.2.1.1, h4, h5⟩, ⟨L3.1.2.2, q3⟩, L3.2.1, ⟨r1, r2, r3⟩, ⟨hk3, hg3⟩, ⟨L3.2.2.2.2.2.2.1, L3.2.2.2.2.2.2.2.1⟩, p_w3, nb⟩, ⟨hw3, hcd3⟩, C1, T3, ⟨?_, ?_⟩, ?_, ?_⟩⟩
      · rw [f_w3 _ _ _ (by omega), f_w2 _ _ _ (by omega), h3.2.2.2.2.2.1.2 _ _ _ (by omega) (by omega)]; exact p_w1
      · rw [f_w3 _ _ _ (by omega)]; exact p_w2
      · exact h3.2.2.2.2.1.2 _ _ _ (by omega) (by omega) (by omega) (by omega) (by omega)
      · intro k hk
        show jf w3 41 H k = _
        rw [f_w3 _ _ _ (by omega), f_w2 _ _ _ (by omega), h3.2.2.2.2.2.1.2 _ _ _ (by omega) (by omega), f_w1 _ _ _ (by omega)]; exact h.2.2.2.2.2.1.2 _ _ _ (by omega) (by omega)
    · obtain ⟨u, x, w, e1, e2, x0, hx⟩ := lkX.mk (C := C) (H := H) (f := 6) (s := r.1) (t := w3) (by omega) bd (by omega) ht3 (by decide) (-1) (-1)
      rw [z2 yb w e2, es, e1, Option.bind_some]
      dsimp only
      rw [jck0_in x0, Option.bind_some]
      exact ⟨_, rfl, .inl ⟨rfl, _, rfl, (hx.pre C1 T3).mono (by omega) (by omega)⟩⟩
  · rw [if_neg c, if_neg c]
    rcases h2 with ⟨z1, -⟩ | ⟨⟨k0, k1⟩, ⟨s5, -⟩, -⟩
    · exact absurd (h1 ▸ z1) c
    obtain ⟨k, hkk⟩ : ∃ k, k = q.2 := ⟨_, rfl⟩
    rw [h1, ← hkk] at k0 k1 s5
    rw [← hkk]
    obtain ⟨G, r1, -, -⟩ := h3.2.2.1
    obtain ⟨-, hI⟩ := r1.2.2 k k0 k1
    obtain ⟨p1, p2⟩ := h3.2.1
    obtain ⟨-, -, c27, c28⟩ := p1.2.1 k k0 k1
    obtain ⟨-, -, t199⟩ := p2.1 k k0 k1
    rcases hI with ⟨-, q5, -⟩ | ⟨⟨z30, z31⟩, i, ⟨i0, i1, -⟩, z2, -⟩
    · omega
    have J28 : jlt r.1 1000 (C + 4275 + 28) 256 k = some (z 3 k) := by rw [jlt_in k0 (by omega), c28]
    have J27 : jlt r.1 1000 (C + 4275 + 27) 256 k = some i := by rw [jlt_in k0 (by omega), c27, if_neg (by omega)]; exact congrArg some (by omega)
    have J199 : jlt q.1 1000 (H + 199) 256 k = some (z 2 k) := by rw [jlt_in k0 (by omega), t199]
    rw [J28, J27, J199, Option.bind_some, Option.bind_some, Option.bind_some, jdv_in (by decide), I_div_n (by omega) (by omega) (by decide) (by decide), Option.bind_some, Option.bind_some, jdv_in (by decide), I_rem_n (by omega) (by omega) (by decide) (by decide), Option.bind_some, show z 2 k / 300 = z 3 k by omega, show z 2 k % 300 = i by omega]
    obtain ⟨u, x, w, e1, e2, x0, hx⟩ := lkX.mk (C := C) (H := H) (f := 8) (s := r.1) (t := q.1) (by omega) bd (by omega) ht (by decide) (z 3 k) i
    rw [e1, e2, Option.bind_some, Option.bind_some]
    dsimp only
    rw [jck0_in x0, Option.bind_some, Wz_0]
    exact ⟨_, rfl, .inl ⟨rfl, _, rfl, (hx.pre C1 T2).mono (by omega) (by omega)⟩⟩
theorem x_layAll (hk : lkB C H S O s t) (hg : gFc C S O s e) (hgt : gFt H S O t e) (gv : gFv S O e) (hw : wrS C H s t) (hcd : cKdl C s) (hc : cBs s (C + 4275 + 1)) (hb : jBd s 838 6669) (hf : jf s 39 (C + 4275) 33 = jf t 41 H 106) (E : Int) : ∃ q, m_X37_layAll t H = some q ∧ laQ C H S O s t e E ((m_X35_layOut s (C + 4275)).bind fun q7 => jth q7.2.1 (some (q7.1, true, q7.2.2)) (if (jf q7.1 39 (C + 4275) 33) = 0 then u_X35_link_45 q7.1 (C + 4275) E 0 else (m_X36_settle q7.1 (C + 4275 + 1)).bind fun q8 => u_X35_link_45 q8.1 (C + 4275) E q8.2)) q := by
  obtain ⟨r, q, er, eq, hq⟩ := jE2_get (x_layOut (QQ := fun r q => (q.2 = 0 ∧ lkX C H s t 837 6663 r q.1) ∨ (r.2 = (false, 0) ∧ q.2 = 1 ∧ ∃ d z y, LYD C H S O s t r.1 q.1 e d z y)) hk hg hgt gv hw hcd hc ⟨by have := hb.1; omega, by have := hb.2; omega⟩ (fun r q a b => .inl ⟨a, b⟩) (fun r q a b c => .inr ⟨a, b, c⟩))
  rw [em_X37_layAll]; unfold dm_X37_layAll
  rw [eq, er, Option.bind_some, Option.bind_some]
  rcases hq with ⟨a1, a2⟩ | ⟨a1, a2, d, z, y, a3⟩
  · rw [if_pos a1, a2.1.1]
    exact ⟨_, rfl, .inl ⟨Wz_0, _, rfl, ⟨⟨rfl, a2.1.2⟩, (a2.mono (by omega) (by omega)).2⟩⟩⟩
  · have f33 : jf r.1 39 (C + 4275) 33 = jf s 39 (C + 4275) 33 := a3.2.2.2.2.1.2 _ _ _ (by omega) (by omega) (by omega) (by omega) (by omega)
    have f106 : jf q.1 41 H 106 = jf t 41 H 106 := a3.2.2.2.2.2.1.2 _ _ _ (by omega) (by omega)
    rw [if_neg (by omega), a1, jth_ff, f33, f106, hf]
    by_cases c : jf t 41 H 106 = 0
    · rw [if_pos c, if_pos c]
      exact la_rest a3 hb E
    · rw [if_neg c, if_neg c]
      obtain ⟨r2, q2, er2, eq2, e2, d', h', -⟩ := jE2_get (x_settleJ a3)
      rw [er2, eq2, Option.bind_some, Option.bind_some, e2]
      exact la_rest h' hb E
end jLal2
