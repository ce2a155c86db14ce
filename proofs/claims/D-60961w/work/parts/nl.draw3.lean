/-! the linker: the image is drawn and written, both sides *-/
set_option maxRecDepth 100000
section jLdx
variable {s t u w s0 t0 s' t' : jS} {a b k m n o p q v l x y c f g j A H C S X : Int} {O : Int → Int → Int → Int → Int} {d e z : Int → Int → Int} {i i' : Int → Int → Int → Int} {G B : Int → Int} {QQ : jS × Bool × Int → jS × Int → Prop}
theorem ouE_mono (v : vLy d) : ouE d 2 ≤ ouB d 3 := by
  obtain ⟨h1, h2⟩ := v.2.2.2.2.2.2.2.2 3 (by decide) (by decide)
  have u := up2_lo (a := lyO d 3) h1 h2
  show lyO d 3 ≤ up2 (lyO d 3) (d 14 3)
  omega
/-- written on both sides, whatever the files held -/
theorem i_write3 {OO : Int} (T : jTt s 42 OO) (hI : cIm s (OO + 1) i) (hS : cIs s (OO + 1)) (vi : vIm i) (h : tIm t X 0 i) : jE2 (m_X22_write s OO) (m_X42_write t X) fun r q => r.2 = q.2 ∧ fWt s r.1 OO ∧ sWt t q.1 X ∧ cIm r.1 (OO + 1) i ∧ (r.2 < 0 ∧ (∀ c a k, a = OO + 19 ∨ a = OO + 20 → jf r.1 c a k = jf s c a k) ∨ ¬ r.2 < 0 ∧ iFF r.1 q.1 OO X) := by
  obtain ⟨r, er, a1, a2, hr⟩ := i_write T hI hS vi
  obtain ⟨q, eq, b1, hq⟩ := s_write h vi
  refine ⟨r, er, q, eq, ?_⟩
  rcases hr with ⟨x, x1, x2, x3, x4⟩ | ⟨x1, x2, x3, x4⟩ | ⟨x1, x2, x3, g1, x4, x5⟩ <;> rcases hq with ⟨y, y1, y2, y3, y4⟩ | ⟨y1, y2, y3, y4⟩ | ⟨y1, y2, y3, y4, g2, y5, y6⟩
  · have lo := wcI_lo x1
    exact ⟨by rw [x3, y3, wcI_one x1 y1], a1, b1, a2, .inl ⟨by omega, x4⟩⟩
  · exact absurd (wcI_one x1 y1) x2
  · exact absurd (wcI_one x1 y1) x2
  · exact absurd (wcI_one y1 x1) y2
  · exact ⟨by rw [x3, y3], a1, b1, a2, .inl ⟨by omega, x4⟩⟩
  · omega
  · exact absurd (wcI_one y1 x1) y2
  · omega
  · have n0 := x4.n0
    refine ⟨by rw [x3, y3], a1, b1, a2, .inr ⟨by omega, g1, ttI i, x4, fun k k0 k1 => ?_, x4.by, x4.n0, y2, y4⟩⟩
    rw [pIm_one vi x5 y6 k0 k1]
    exact y5 k
/-- all that drawing and writing touch -/
def tDX (H : Int) (t w : jS) : Prop := jSm t w ∧ ∀ c a k, ¬ (H + 118 ≤ a ∧ a < H + 130) → jf w c a k = jf t c a k
/-- drawn, or refused -/
def drQ (C H : Int) (s t : jS) (r : jS × Bool × Int) (q : jS × Int) : Prop := (r.2 = (false, 0) ∧ q.2 = 1 ∧ jFx s r.1 (C + 3992) 37 ∧ tDX H t q.1 ∧ (jTt r.1 42 (C + 3992) ∧ cIz r.1 (C + 3993) ∧ cIs r.1 (C + 3993)) ∧ iFF r.1 q.1 (C + 3992) (H + 118)) ∨ (q.2 = 0 ∧ ∃ s1 t1, jFx s s1 (C + 3992) 37 ∧ tDX H t t1 ∧ imI C H s1 t1 ∧ lkX C H s1 t1 1 6 r q.1)
theorem x_drawEnd (h : drJ C H S O s0 t0 e d z G s t) (hb : jBd s0 1 6) : jE2 (u_X35_draw_239 s (C + 4275)) (u_X37_makeImage_189 t H) (drQ C H s0 t0) := by
  obtain ⟨⟨W, T⟩, hd, i, hI, hT, vi, cs⟩ := h
  obtain ⟨i1, i2, i3, i4⟩ := hd.2.2.2.2
  have eO : C + 4275 + -283 = C + 3992 := by omega
  have e1 : C + 3992 + 1 = C + 3993 := by omega
  rw [← e1] at hI cs
  obtain ⟨r, er, q, eq, g1, g2, g3, g4, g5⟩ := i_write3 i1 hI cs vi hT
  obtain ⟨r', er', g6⟩ := i_write28 i1 hI cs vi
  rw [er] at er'
  have := Option.some.inj er'
  subst this
  rw [e1] at g4 g6
  have W0 : jFx s0 s (C + 3993) 9 := W
  have W1 : jFx s0 r.1 (C + 3992) 37 := (W0.wide (by omega) (by omega)).trans g2.1
  have T1 : tDX H t0 q.1 := ⟨T.1.trans g3.1, fun c a k z => by rw [g3.2 c a k (by omega) (by omega)]; exact T.2 c a k (by omega)⟩
  have T' := i1.ext g2.1.2
  have hk := hd.1.2.2.2.2.2.1.1
  rw [eu_X35_draw_239, eu_X37_makeImage_189]; unfold du_X35_draw_239 du_X37_makeImage_189
  rw [eO, er, eq, Option.bind_some, Option.bind_some, ← g1]
  by_cases c : r.2 < 0
  · rw [if_pos c, if_pos c]
    have h99 : jf q.1 41 H 99 = 0 := by rw [g3.2 _ _ _ (by omega) (by omega)]; exact hk.2.2.2.2.2
    have m0 : jSm s r.1 := g2.1.1.1
    have im : imI C H r.1 q.1 := ⟨T', g4.2.2.2.2, g6, i4.kp (by
      rcases g5 with ⟨-, q⟩ | ⟨q, -⟩
      · exact q
      · exact absurd c q) (T42 T').2.2.2.1 (g3.2 _ _ _ (by omega) (by omega)) fun k => g3.2 _ _ _ (by omega) (by omega)⟩
    obtain ⟨u, x, w, f1, f2, f3, f4⟩ := lkX.mk (C := C) (H := H) (f := 9) (s := r.1) (t := q.1) (by rw [m0.2.2.1]; have := hk.1; omega) (hb.sm W1.1.1) (by rw [m0.2.2.1]; have := hk.1; omega) h99 (by decide) (-1) r.2
    rw [f1, f2, Option.bind_some, Option.bind_some]
    dsimp only
    rw [jck0_in f3, if_pos rfl, Wz_0]
    exact jE2_some.mpr (.inr ⟨rfl, r.1, q.1, W1, T1, im, f4⟩)
  · rw [if_neg c, if_neg c, Wz_1]
    refine jE2_some.mpr (.inl ⟨rfl, rfl, W1, T1, ⟨T', g4.2.2.2.2, g6⟩, ?_⟩)
    rcases g5 with ⟨q, -⟩ | ⟨-, q⟩
    · exact absurd q c
    · exact q
theorem x_draw (h : drS C H S O s t e d z G) (hg : stY O e g) (hb : jBd s 1 6) : jE2 (m_X35_draw s (C + 4275) g) (m_X37_makeImage t H) (drQ C H s t) := by
  obtain ⟨h1, h2, h3, h4, i1, i2, i3, i4⟩ := id h
  obtain ⟨⟨⟨g0, g1⟩, -, ge⟩, gy⟩ := id hg
  have eO : C + 4275 + -283 = C + 3992 := by omega
  have e1 : C + 3992 + 1 = C + 3993 := by omega
  rw [em_X35_draw, em_X37_makeImage]; unfold dm_X35_draw dm_X37_makeImage
  rw [eO]
  -- cleared
  obtain ⟨r1, er1, ⟨k1, c1⟩, k2⟩ := jE_and (i_clear (u := s) (b := C + 3993) i2) (i_clear28 (u := s) (b := C + 3993))
  obtain ⟨t1, et1, T1, W1⟩ := t_clearI (t := t) (X := H + 118)
  have ec1 : m_X22_clear s (C + 3992) = some (r1.1, 0) := by
    rw [em_X22_clear]; unfold dm_X22_clear
    rw [e1, er1, Option.bind_some]
  rw [ec1, et1, Option.bind_some, Option.bind_some]
  dsimp only
  have vn : vIm iNew := ⟨fun x x0 x1 => ⟨.inl rfl, fun q => absurd rfl q⟩, ⟨by decide, by decide⟩, by unfold pP2; decide, fun k k0 k1 => .inl rfl⟩
  have d1 := h.dw k1 W1 c1.2.2.2.2 (k2.is i3)
  -- the page
  obtain ⟨r2, er2, q2, eq2, -, hp⟩ := i_page2 (v := 4) (O := C + 3992) (by rw [e1]; exact c1) T1
  rcases hp with ⟨q, -⟩ | ⟨-, p1, p2, p3, p4⟩
  · exact absurd (by decide) q
  rw [er2, eq2, Option.bind_some, Option.bind_some]
  rw [e1] at p3
  have m2 : cDW C r1.1 r2.1 := by rw [p1, e1]; exact jFx.rfl.jp rfl (by omega) (by omega)
  have n2 : tDW (H + 118) t1 q2.1 := by rw [p2]; exact tDW.rfl.jp (by omega)
  have k3 : k28 r1.1 r2.1 := by rw [p1]; exact k28.rfl.jp (by omega)
  have v2 : vIm (iUp iNew 2 1 (I_shl 1 4)) := vn.up 1 (fun q => absurd q (by decide)) fun _ => pP2_shl (by decide)
  have d2 := d1.dw m2 n2 p3.2.2.2.2 (k3.is (k2.is i3))
  -- the entry
  obtain ⟨hk, hgc, hgt, hv⟩ := d2.1.2.2.2.2.2.1
  obtain ⟨a1, a2, a3, -⟩ := hgc.2.2 g g0 g1
  obtain ⟨-, -, gm, -⟩ := hv.2.1 g g0 g1
  have e6 := hv.1.2.1
  obtain ⟨⟨hX, -⟩, w0, w4⟩ := gm ge
  obtain ⟨s18, s19⟩ := a3 ge
  obtain ⟨P, y1, y2, y3, -⟩ := x_symP d2.1 hX.1 w0 w4
  have eG : m_X35_globalPlace r2.1 (C + 4275) g = some (r2.1, P) := by
    rw [em_X35_globalPlace]; unfold dm_X35_globalPlace
    have eh : hC (e 3 g) = 0 := by unfold hC; rw [if_neg (by omega), if_pos ge]
    rw [jlt_in g0 (by omega), Option.bind_some, a2, if_pos eh, jlt_in g0 (by omega), Option.bind_some, s18, jlt_in g0 (by omega), s19, Option.bind_some, Option.bind_some, (hk.sym hX.1).1, Option.bind_some, y1, Option.bind_some]
  have eS : m_X37_startSymbol q2.1 H = some (e 4 g) := by
    rcases t_startSym hk hgt hv with ⟨g', f1, f2⟩ | ⟨f1, -⟩
    · rw [f2, stGl_one hv f1 hg.1]
    · exact absurd hg.1 (f1 g)
  rw [eG, eS, Option.bind_some, Option.bind_some, y2, Option.bind_some]
  dsimp only
  rw [show L2i P = P from l2i_in y3.1 y3.2]
  obtain ⟨r3, er3, q3, eq3, -, p5, p6, p7, p8⟩ := i_entry2 (v := P) (O := C + 3992) (by rw [e1]; exact p3) p4
  rw [er3, eq3, Option.bind_some, Option.bind_some]
  rw [e1] at p7
  have m3 : cDW C r2.1 r3.1 := by rw [p5, e1]; exact jFx.rfl.jp rfl (by omega) (by omega)
  have n3 : tDW (H + 118) q2.1 q3.1 := by rw [p6]; exact tDW.rfl.jp (by omega)
  have k4 : k28 r2.1 r3.1 := by rw [p5]; exact k28.rfl.jp (by omega)
  have v3 := v2.up 0 (fun _ => y3) fun q => absurd q (by decide)
  have cs3 := k4.is (k3.is (k2.is i3))
  have d3 := d2.dw m3 n3 p7.2.2.2.2 cs3
  have W3 : cDW C s r3.1 := (k1.trans m2).trans m3
  have T3 : tDW (H + 118) t q3.1 := (W1.trans n2).trans n3
  have i0 : ∀ x, iUp (iUp iNew 2 1 (I_shl 1 4)) 2 0 P 1 x 0 = 0 := fun x => by rw [iUp_ne (by omega), iUp_ne (by omega)]; rfl
  -- the first segment
  obtain ⟨s4, t4, j4, es4, et4, ⟨m4, n4⟩, d4, J4, f4⟩ := x_segI (m := 0) d3 ⟨p7, p8, v3, cs3⟩ (x := 0) (by decide) (by decide) (i0 0)
  rw [es4, et4, Option.bind_some, Option.bind_some]
  dsimp only
  have le : ∀ o, 0 ≤ o → o < 4 → (0 ≤ ouB d o ∧ ouB d o ≤ 4700000) ∧ ouB d o ≤ ouE d o ∧ ouE d o ≤ 5783552 := fun o o0 o1 => ⟨ouB_lo h1.1 o0 o1, ouE_lo h1.1 o0 o1⟩
  obtain ⟨⟨b00, b01⟩, l00, l01⟩ := le 0 (by decide) (by decide)
  obtain ⟨⟨b10, b11⟩, l10, l11⟩ := le 1 (by decide) (by decide)
  obtain ⟨⟨b20, b21⟩, l20, l21⟩ := le 2 (by decide) (by decide)
  obtain ⟨⟨b30, b31⟩, l30, l31⟩ := le 3 (by decide) (by decide)
  have mo := ouE_mono h1.1
  have oC := fun {s t} (hd : drS C H S O s t e d z G) (o : Int) (o0 : 0 ≤ o) (o1 : o < 4) => hd.1.outC o0 o1
  have oS : ∀ {s t}, drS C H S O s t e d z G → ∀ o, 0 ≤ o → o < 4 → m_X37_outputSize t H o = some (ouE d o - ouB d o) := fun hd o o0 o1 => by
    obtain ⟨q1, q2⟩ := hd.1.outT o0 o1
    obtain ⟨⟨z1, z2⟩, z3, z4⟩ := le o o0 o1
    rw [em_X37_outputSize]; unfold dm_X37_outputSize
    rw [q2, q1, Option.bind_some, Option.bind_some, W32_in (by omega) (by omega)]
  -- marks and the end
  have f109 : ∀ u w, drJ C H S O s t e d z G u w → jE2 (u_X35_draw_109 u (C + 4275)) (u_X37_makeImage_89 w H) (drQ C H s t) := fun u w hj => by
    rw [eu_X35_draw_109, eu_X37_makeImage_89]; unfold du_X35_draw_109 du_X37_makeImage_89
    rw [(oC hj.2.1 0 (by decide) (by decide)).2, Option.bind_some]
    dsimp only
    rw [(oC hj.2.1 0 (by decide) (by decide)).1, Option.bind_some]
    simp only [jlet]
    rw [W32_in (by omega) (by omega)]
    exact x_marks hj rfl fun s' t' hj' => x_drawEnd hj' hb
  -- the third segment
  have f62 : ∀ u w i, cDW C s u ∧ tDW (H + 118) t w → drS C H S O u w e d z G → imJ C H u w i → i 1 2 0 = 0 → jE2 (u_X35_draw_62 u (C + 4275)) (u_X37_makeImage_51 w H) (drQ C H s t) := fun u w i hW hd hj hi => by
    rw [eu_X35_draw_62, eu_X37_makeImage_51]; unfold du_X35_draw_62 du_X37_makeImage_51
    obtain ⟨q21, q22⟩ := hd.1.outT (o := 2) (by decide) (by decide)
    obtain ⟨q31, q32⟩ := hd.1.outT (o := 3) (by decide) (by decide)
    rw [(oC hd 3 (by decide) (by decide)).2, Option.bind_some, q32, q22, Option.bind_some, Option.bind_some]
    dsimp only
    rw [(oC hd 2 (by decide) (by decide)).2, Option.bind_some]
    simp only [jlet]
    rw [(oC hd 3 (by decide) (by decide)).2, Option.bind_some]
    dsimp only
    rw [(oC hd 2 (by decide) (by decide)).1, Option.bind_some, oS hd 2 (by decide) (by decide), Option.bind_some, W32_in (z := ouE d 3 - ouE d 2) (by omega) (by omega)]
    dsimp only
    by_cases c : ouB d 2 < ouE d 3
    · obtain ⟨s5, t5, j5, es5, et5, ⟨m5, n5⟩, d5, J5, -⟩ := x_segI (m := ouE d 3 - ouE d 2) hd hj (x := 2) (by decide) (by decide) hi
      have e83 : u_X37_makeImage_83 w H (ouE d 3 - ouE d 2) = u_X37_makeImage_89 t5 H := by
        rw [eu_X37_makeImage_83]; unfold du_X37_makeImage_83
        rw [et5, Option.bind_some]
      rw [if_pos c, es5, Option.bind_some, e83]
      have := f109 s5 t5 ⟨⟨hW.1.trans m5, hW.2.trans n5⟩, d5, j5, J5⟩
      by_cases c2 : 0 < ouE d 2 - ouB d 2
      · rw [if_pos c2]; exact this
      · rw [if_neg c2, if_pos (by omega)]; exact this
    · rw [if_neg c, if_neg (by omega), if_neg (by omega)]
      exact f109 u w ⟨hW, hd, i, hj⟩
  rw [(oC d4 1 (by decide) (by decide)).2, Option.bind_some]
  dsimp only
  rw [(oC d4 1 (by decide) (by decide)).1, Option.bind_some, oS d4 1 (by decide) (by decide), Option.bind_some]
  dsimp only
  by_cases c : ouB d 1 < ouE d 1
  · obtain ⟨s5, t5, j5, es5, et5, ⟨m5, n5⟩, d5, J5, f5⟩ := x_segI (m := 0) d4 J4 (x := 1) (by decide) (by decide) (by rw [f4 1 (by decide)]; exact i0 1)
    rw [if_pos c, if_pos (by omega), es5, et5, Option.bind_some, Option.bind_some]
    exact f62 s5 t5 j5 ⟨(W3.trans m4).trans m5, (T3.trans n4).trans n5⟩ d5 J5 (by rw [f5 2 (by decide), f4 2 (by decide)]; exact i0 2)
  · rw [if_neg c, if_neg (by omega)]
    exact f62 s4 t4 j4 ⟨W3.trans m4, T3.trans n4⟩ d4 J4 (by rw [f4 2 (by decide)]; exact i0 2)
end jLdx
