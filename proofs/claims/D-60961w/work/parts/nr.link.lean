/-! the linker whole, both sides *-/
set_option maxRecDepth 100000
section jLln
variable {s t u w s0 t0 s' t' s1 t1 : jS} {a b k m n o p q v l x y c f g j A H C S X P Q P' Q' F E sh : Int} {O : Int → Int → Int → Int → Int} {d e z : Int → Int → Int} {i i' : Int → Int → Int → Int} {G : Int → Int → Int} {N : Int → Int}
/-- linked, from the start -/
def lnT (C H : Int) (s t : jS) (P Q : Int) (r : jS × Bool × Int) (q : jS × Int) : Prop := r.2 = (false, 0) ∧ jf q.1 41 H 4 = 0 ∧ cNG C s r.1 P Q ∧ tNG H t q.1 ∧ (jf q.1 41 H 99 = 0 ∧ jf q.1 41 H 100 = -1 ∧ jf q.1 41 H 101 = -1) ∧ imI C H r.1 q.1 ∧ kpR C H r.1 q.1 ∧ (jf r.1 39 (C + 4275) 46 = jf q.1 41 H 102 ∧ jf r.1 39 (C + 4275) 47 = jf q.1 41 H 103) ∧ ∃ g n, iB r.1 (C + 3992 + 19) g n ∧ q.2 = n ∧ jf q.1 41 H 3 = n ∧ ∀ k, 0 ≤ k → k < n → jf q.1 1000 (H + 3) k = g k
theorem x_link (hS : lkSt C H s G N t) (hcd : cKdl C s) (hc : cBs s (C + 4276)) (hw : wrS C H s t) (im : imI C H s t) (hI : pTi t (H + 25)) (S0 : 1 ≤ S) (S1 : S ≤ 63) (hsh : sh = 0 ∨ sh = 1) (hb : jBd s 850 6760) : ∃ r q, m_X35_link s (C + 4275) S sh = some r ∧ m_X37_link t H S sh = some q ∧ (lnF C H s t 850 6760 r q ∨ lnT C H s t 850 6760 r q) := by
  obtain ⟨⟨C0, Cn⟩, hKd, hF, hL, hP, hT⟩ := id hS
  have hC : 0 ≤ C ∧ C + 15464 ≤ jn s := ⟨C0, Cn⟩
  have hK : ∀ a, C ≤ a → a < C + 15464 → ¬ (70 ≤ jK s a ∧ jK s a ≤ 77) := fun a a0 a1 => (hKd a a0 a1).2
  have hO : outK C s := outK.of (T17 hT).2.2.2.2.2.2.2.2.1
  obtain ⟨O, hOO⟩ : ∃ O : Int → Int → Int → Int → Int, O = fun x => oR (G x) := ⟨_, rfl⟩
  -- a fault at any stage
  have bad : ∀ {u w : jS} {r : jS × Bool × Int} {w' : jS} {P Q P' Q' : Int}, cLF C s u P Q → tLF H t w → lkX C H u w P' Q' r w' → P + P' ≤ 850 → Q + Q' ≤ 6760 → ∃ q, u_X37_link_100 w' H = some q ∧ lnF C H s t 850 6760 r q := fun g g' hx h1 h2 => by
    obtain ⟨q, e, hq⟩ := t_no2 (hx.pre g g') hC hK im
    exact ⟨q, e, hq.mono h1 h2⟩
  -- the twin's head
  obtain ⟨t1, E1⟩ : ∃ t1, t1 = jp t 41 H 4 0 := ⟨_, rfl⟩
  obtain ⟨f1, p1, -⟩ := jpF E1
  obtain ⟨t2, E2⟩ : ∃ t2, t2 = jp t1 41 H 107 S := ⟨_, rfl⟩
  obtain ⟨f2, p2, -⟩ := jpF E2
  obtain ⟨t3, E3⟩ : ∃ t3, t3 = jp t2 41 H 106 sh := ⟨_, rfl⟩
  obtain ⟨f3, p3, -⟩ := jpF E3
  obtain ⟨t4, E4⟩ : ∃ t4, t4 = jp t3 41 H 99 0 := ⟨_, rfl⟩
  obtain ⟨f4, p4, -⟩ := jpF E4
  obtain ⟨t5, E5⟩ : ∃ t5, t5 = jp t4 41 H 100 (-1) := ⟨_, rfl⟩
  obtain ⟨f5, p5, -⟩ := jpF E5
  obtain ⟨t6, E6⟩ : ∃ t6, t6 = jp t5 41 H 101 (-1) := ⟨_, rfl⟩
  obtain ⟨f6, p6, -⟩ := jpF E6
  have F6 : ∀ c a k, ¬ (c = 41 ∧ a = H ∧ (k = 4 ∨ k = 107 ∨ k = 106 ∨ 99 ≤ k ∧ k ≤ 101)) → jf t6 c a k = jf t c a k := fun c a k q => by
    rw [f6 _ _ _ (by omega), f5 _ _ _ (by omega), f4 _ _ _ (by omega), f3 _ _ _ (by omega), f2 _ _ _ (by omega), f1 _ _ _ (by omega)]
  have T6 : tLF H t t6 := ⟨by rw [E6, E5, E4, E3, E2, E1]; exact (((((jSm.rfl.jp).jp).jp).jp).jp).jp, fun c a k q1 q2 q3 q4 => F6 c a k (by omega)⟩
  have v107 : jf t6 41 H 107 = S := by rw [f6 _ _ _ (by omega), f5 _ _ _ (by omega), f4 _ _ _ (by omega), f3 _ _ _ (by omega)]; exact p2
  have v106 : jf t6 41 H 106 = sh := by rw [f6 _ _ _ (by omega), f5 _ _ _ (by omega), f4 _ _ _ (by omega)]; exact p3
  have v99 : jf t6 41 H 99 = 0 := by rw [f6 _ _ _ (by omega), f5 _ _ _ (by omega)]; exact p4
  have v100 : jf t6 41 H 100 = -1 := by rw [f6 _ _ _ (by omega)]; exact p5
  have eT : m_X37_link t H S sh = (m_X37_readUnits t6 H).bind fun q8 => if q8.2 = 0 then u_X37_link_100 q8.1 H else (m_X37_findGlobals q8.1 H).bind fun q9 => if q9.2 = 0 then u_X37_link_100 q9.1 H else (m_X37_defineGlobals q9.1 H).bind fun q10 => if q10.2 = 0 then u_X37_link_100 q10.1 H else (m_X37_layAll q10.1 H).bind fun q11 => if q11.2 = 0 then u_X37_link_100 q11.1 H else (m_X37_relocateAll q11.1 H).bind fun q12 => if q12.2 = 0 then u_X37_link_100 q12.1 H else (m_X37_makeImage q12.1 H).bind fun q13 => if q13.2 = 0 then u_X37_link_100 q13.1 H else u_X37_link_101 q13.1 H 1 := by
    rw [em_X37_link]; unfold dm_X37_link
    rw [if_neg (by omega), if_neg (by omega), eu_X37_link_17]; unfold du_X37_link_17
    rw [jls_e, ← E1, p1, if_pos rfl, jls_e, ← E2, jzb_in hsh, Option.bind_some, jls_e, ← E3, jls_e, ← E4, jls_e, ← E5, jls_e, ← E6]
  -- the component's head
  obtain ⟨s1, G1⟩ : ∃ s1, s1 = jp s 39 (C + 4275) 33 sh := ⟨_, rfl⟩
  obtain ⟨g1, o1, -⟩ := jpF G1
  have L1 : cLF C s s1 0 0 := by rw [G1]; exact cLF.rfl.jp (by omega) (by omega)
  have x1 : jEx s s1 := by rw [G1]; exact jEx.rfl.jp rfl
  have m1 : jSm s s1 := by rw [G1]; exact jSm.rfl.jp
  have hS1 : lkSt C H s1 G N t6 := by
    obtain ⟨a1, a2, a3, a4, a5, a6⟩ := hS.lf L1 x1 (w := t) fun _ _ _ _ _ => rfl
    refine ⟨a1, a2, fun x x0 x1 => ?_, a4, a5, a6⟩
    obtain ⟨b1, b2, b3⟩ := a3 x x0 x1
    exact ⟨b1, by rw [F6 _ _ _ (by omega)]; exact b2, fun k k0 k1 => by rw [F6 _ _ _ (by omega)]; exact b3 k k0 k1⟩
  have hI1 : pTi t6 (H + 25) := hI.keep fun a k ha => F6 _ _ _ (by omega)
  rw [eT, em_X35_link]; unfold dm_X35_link
  rw [jzb_in hsh, Option.bind_some, jls_e, ← G1]
  -- reading
  obtain ⟨r2, q2, er2, eq2, hx2⟩ := jE2_get (x_readAll (O := O) hS1 ((hb.le (by decide) (by decide)).sm m1) (fun x => by rw [hOO]) hI1 v99 v107)
  rw [er2, eq2, Option.bind_some, Option.bind_some]
  rcases hx2 with ⟨b1, b2, hrd⟩ | hx2
  rotate_left
  · obtain ⟨qq, e4, hq⟩ := bad L1 T6 (P' := 12) (Q' := 72) ⟨hx2.1, hx2.2.2.1, hx2.2.2.2.1, hx2.2.2.2.2⟩ (by decide) (by decide)
    rw [hx2.1.1, if_pos hx2.2.1, e4]
    refine ⟨r2, qq, ?_, rfl, .inl hq⟩
    obtain ⟨z1, z2, z3⟩ := r2
    have : z2 = true := hx2.1.1
    subst this; rfl
  have hk2 : lkB C H S O r2.1 q2.1 := lkB.of hS1 hrd ⟨C0, by rw [m1.2.2.1]; exact Cn⟩ (hT.ext x1) v107 v99
  obtain ⟨⟨j1, j2⟩, -, -, j5, -, j33⟩ := hrd
  have L2 : cLF C s r2.1 6 36 := (L1.trans j1).mono (by decide) (by decide)
  have T2 : tLF H t q2.1 := T6.trans j5.lf
  have hb2 : jBd r2.1 844 6724 := (show jBd s (6 + 844) (36 + 6724) from hb).gw L2.1
  have hn2 : C + 15464 ≤ jn r2.1 := hk2.1.2
  rw [b1, jth_ff, if_neg (by omega)]
  -- names
  obtain ⟨r3, q3, er3, eq3, hx3⟩ := jE2_get (x_names hk2 (hb2.le (by decide) (by decide)))
  rw [er3, eq3, Option.bind_some, Option.bind_some]
  rcases hx3 with ⟨b3, b4, W3, U3, e, n1, n2, n3⟩ | hx3
  rotate_left
  · obtain ⟨qq, e4, hq⟩ := bad L2 T2 (P' := 1) (Q' := 6) ⟨hx3.1, hx3.2.2.1, hx3.2.2.2.1, hx3.2.2.2.2⟩ (by decide) (by decide)
    rw [hx3.1.1, if_pos hx3.2.1, e4]
    refine ⟨r3, qq, ?_, rfl, .inl hq⟩
    obtain ⟨z1, z2, z3⟩ := r3
    have : z2 = true := hx3.1.1
    subst this; rfl
  have hk3 := (hk2.gw W3).tgw U3
  have L3 : cLF C s r3.1 6 36 := (L2.trans W3.lf).mono (by decide) (by decide)
  have T3 : tLF H t q3.1 := T2.trans U3.lf
  have hb3 : jBd r3.1 844 6724 := hb2.sm W3.1
  rw [b3, jth_ff, if_neg (by omega)]
  -- what they mean
  obtain ⟨r4, q4, er4, eq4, hx4⟩ := x_define hk3 (hb3.le (by decide) (by decide)) (hcd.lf C0 Cn L3) n1 n2 n3
  rw [er4, eq4, Option.bind_some, Option.bind_some]
  rcases hx4 with hx4 | ⟨b5, r5, er5, hx5⟩
  · obtain ⟨qq, e4, hq⟩ := bad L3 T3 (P' := 1) (Q' := 6) ⟨hx4.1, hx4.2.2.1, hx4.2.2.2.1, hx4.2.2.2.2⟩ (by decide) (by decide)
    rw [hx4.1.1, if_pos hx4.2.1, e4]
    refine ⟨r4, qq, ?_, rfl, .inl hq⟩
    obtain ⟨z1, z2, z3⟩ := r4
    have : z2 = true := hx4.1.1
    subst this; rfl
  rw [b5, jth_ff, er5, Option.bind_some]
  rcases hx5 with hx5 | ⟨e', g, b6, b7, hst, W5, U5, gc, gt, gv, -⟩
  · obtain ⟨qq, e4, hq⟩ := bad L3 T3 (P' := 1) (Q' := 6) ⟨hx5.1, hx5.2.2.1, hx5.2.2.2.1, hx5.2.2.2.2⟩ (by decide) (by decide)
    rw [hx5.1.1, if_pos hx5.2.1, e4]
    refine ⟨r5, qq, ?_, rfl, .inl hq⟩
    obtain ⟨z1, z2, z3⟩ := r5
    have : z2 = true := hx5.1.1
    subst this; rfl
  subst b6
  have hk5 := (hk3.gw W5).tgw U5
  have L5 : cLF C s r4.1 6 36 := (L3.trans W5.lf).mono (by decide) (by decide)
  have T5 : tLF H t q4.1 := T3.trans U5.lf
  have hb5 : jBd r4.1 844 6724 := hb3.sm W5.1
  rw [if_neg (by omega)]
  -- all is laid out
  have a33 : jf r4.1 39 (C + 4275) 33 = sh := by
    rw [W5.2 _ _ _ (by omega) (by omega), W3.2 _ _ _ (by omega) (by omega), j33]; exact o1
  have a106 : jf q4.1 41 H 106 = sh := by
    rw [U5.2 _ _ _ (by omega) (by omega), U3.2 _ _ _ (by omega) (by omega), j5.2 _ _ _ (by omega) (by omega)]; exact v106
  have a99 : jf q4.1 41 H 99 = 0 ∧ jf q4.1 41 H 100 = -1 ∧ jf q4.1 41 H 101 = -1 := by
    refine ⟨?_, ?_, ?_⟩ <;> rw [U5.2 _ _ _ (by omega) (by omega), U3.2 _ _ _ (by omega) (by omega), j5.2 _ _ _ (by omega) (by omega)]
    · exact v99
    · exact v100
    · exact p6
  have hw5 := hw.lf Cn L5.1 T5
  have hc5 : cBs r4.1 (C + 4275 + 1) := by
    have := hc.lf Cn L5
    rw [show C + 4275 + 1 = C + 4276 by omega]; exact this
  obtain ⟨q6, eq6, hl⟩ := x_layAll hk5 gc gt gv hw5 (hcd.lf C0 Cn L5) hc5 (hb5.le (by decide) (by decide)) (by rw [a33, a106]) g
  rw [eq6, Option.bind_some]
  have eq1 : ∀ (X Y : Option (jS × Bool × Int)), X = Y → ∀ Z, X = some Z → Y = some Z := fun X Y h Z hz => by rw [← h]; exact hz
  dsimp only
  rcases hl with ⟨b8, r6, er6, hx6⟩ | ⟨b8, s7, d, z, G', y0, er6, hz, ⟨hw7, hcd7⟩, L7, T7, ⟨c104, c105⟩, c33, c106⟩
  · obtain ⟨qq, e4, hq⟩ := bad L5 T5 hx6 (by decide) (by decide)
    rw [if_pos b8, e4]
    exact ⟨r6, qq, er6, rfl, .inl hq⟩
  rw [if_neg (by omega)]
  have L := L5.trans L7
  have T := T5.trans T7
  have hO7 := hO.gw Cn L.1
  have im7 : imI C H s7 q6.1 := im.lf hC hK L.1 T
  have hb7 : jBd s7 1 6 := ((show jBd s (6 + 837 + 7) (36 + 6663 + 61) from hb).gw L.1).le (by decide) (by decide)
  obtain ⟨r, q, e1, e2, hq⟩ := x_half hz hw7 hcd7 hO7 im7 (c33.trans a33) ((c106 106 (.inl rfl)).trans a106) hb7 hst c104 c105
  refine ⟨r, q, by rw [er6]; exact e1, e2, ?_⟩
  rcases hq with hq | ⟨z1, z2, z3, z4, ⟨z5, z6, z7⟩, z8, z9, z10, z11⟩
  · exact .inl ((hq.pre L.nf T.nf).mono (by decide) (by decide))
  · refine .inr ⟨z1, z2, (L.nf.1.trans z3).mono (by decide) (by decide), T.nf.ng.trans z4, ⟨?_, ?_, ?_⟩, z8, z9, z10, z11⟩
    · rw [z5]; exact hz.2.2.2.2.2.1.1.2.2.2.2.2
    · rw [z6, c106 100 (.inr (.inl rfl))]; exact a99.2.1
    · rw [z7, c106 101 (.inr (.inr rfl))]; exact a99.2.2
end jLln
