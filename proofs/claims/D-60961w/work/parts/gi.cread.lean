/-! the component's text is read: the book that stays *-/
section jCread
variable {s t u u0 u1 w v' : jS} {R x b a a' n p p' p'' p0 q r k c f v y e d o z K S T X Y X' Y' P Q pl lo lo' ln y0 eX eY f0 f1 f2 : Int} {g fl : Int → Int} {l m : List Int} {NL : List (List Int)} {W : wR4} {st st' : pS} {I I' L L1 L2 : pI} {A : Int → Prop} {OL : List pvO} {SL : List pvS} {qq : jS × Bool × Int} {zz : pvO} {ss : pvS}
/-- a name that stays -/
def nStr (v : jS) (y : Int) (l : List Int) (lo : Int) : Prop := pSg v y l ∧ jK v y = 9 ∧ pHs v y l ∧ lo < jF v y 0
def opP (u : jS) (lo y : Int) (z : pvO) : Prop := (0 ≤ y ∧ y < jn u ∧ jK u y = 63) ∧ (jf u 63 y 0 = z.1 ∧ jf u 63 y 1 = z.2.1 ∧ jf u 63 y 2 = z.2.2.1 ∧ jf u 63 y 3 = z.2.2.2.1 ∧ jf u 63 y 4 = z.2.2.2.2.1 ∧ jf u 63 y 5 = z.2.2.2.2.2.1) ∧ pSg u (jf u 63 y 7) z.2.2.2.2.2.2 ∧ (lo < jF u (jf u 63 y 7) 0 ∨ jK u (jF u (jf u 63 y 7) 0) = 4001)
/-- a book that stays -/
def bkP (u : jS) (b lo : Int) (NL : List (List Int)) (I : pI) (OL : List pvO) (SL : List pvS) : Prop := bkI u b ∧ (jf u 16 b 8 = NL.length ∧ NL.length ≤ 150 ∧ ∀ i : Nat, i < NL.length → nStr u (jf u 1026 (b + 5) i) (NL.getD i []) lo ∧ (NL.getD i []).length ≤ 1000) ∧ itC u b I ∧ (jf u 16 b 6 = OL.length ∧ OL.length ≤ 800 ∧ ∀ i : Nat, i < OL.length → opP u lo (jf u 1024 (b + 2) i) (OL.getD i oZ)) ∧ jf u 16 b 5 = SL.length ∧ SL.length ≤ 400 ∧ ∀ i : Nat, i < SL.length → stC u (jf u 1025 (b + 1) i) (SL.getD i sZ)
theorem bkC.bkP (h : bkC u b x NL I OL SL) (hx : lo ≤ x) : bkP u b lo NL I OL SL := by
  obtain ⟨B, N, hI, hO, hS⟩ := h
  refine ⟨B, ⟨N.1, N.2.1, fun i hi => ?_⟩, hI, ⟨hO.1, hO.2.1, fun i hi => ?_⟩, hS.1, hS.2.1, fun i hi => (hS.2.2 i hi).2⟩
  · obtain ⟨⟨t1, t2, t3, t4, t5⟩, h9⟩ := N.2.2 i hi
    exact ⟨⟨t1, t2, t3, by omega⟩, h9⟩
  · obtain ⟨r1, h1, h2, h3, h4, h5⟩ := hO.2.2 i hi
    exact ⟨h1, h2, h3, h4.imp (fun z => by omega) id⟩
/-- cells that a book is not of -/
def bkN (u : jS) (b lo : Int) (A : Int → Prop) : Prop := ∀ z, A z → ¬ (b ≤ z ∧ z ≤ b + 5) ∧ ¬ (jK u z = 62 ∨ jK u z = 63 ∨ jK u z = 9 ∨ 3000 ≤ jK u z) ∧ (jK u z = 1001 → z ≤ lo)
theorem bkI.gw (h : bkI u b) (k : jGw u w X Y A) (hA : ∀ z, A z → ¬ (b ≤ z ∧ z ≤ b + 5)) : bkI w b := by
  obtain ⟨⟨h1, h2, h3⟩, ⟨f0, f1, f2, f3, f4⟩, ⟨a1, a2⟩, ⟨b1, b2⟩, ⟨c1, c2⟩, ⟨d1, d2⟩, e1, e2⟩ := h
  have F : ∀ j, jf w 16 b j = jf u 16 b j := fun j => k.2.2 _ _ _ (by omega) (fun z => hA _ z (by omega))
  have := k.1.1
  exact ⟨⟨h1, by omega, by rw [k.K (by omega)]; exact h3⟩, ⟨by rw [F]; exact f0, by rw [F]; exact f1, by rw [F]; exact f2, by rw [F]; exact f3, by rw [F]; exact f4⟩, ⟨by rw [k.K (by omega)]; exact a1, by rw [k.N (by omega)]; exact a2⟩, ⟨by rw [k.K (by omega)]; exact b1, by rw [k.N (by omega)]; exact b2⟩, ⟨by rw [k.K (by omega)]; exact c1, by rw [k.N (by omega)]; exact c2⟩, ⟨by rw [k.K (by omega)]; exact d1, by rw [k.N (by omega)]; exact d2⟩, by rw [k.K (by omega)]; exact e1, by rw [k.N (by omega)]; exact e2⟩
theorem bkP.keep (h : bkP u b lo NL I OL SL) (k : jGw u w X Y A) (hA : bkN u b lo A) : bkP w b lo NL I OL SL := by
  obtain ⟨B, N, hI, hO, s1, s2, s3⟩ := h
  have hb := B.lt
  have F : ∀ c y j, b ≤ y → y ≤ b + 5 → jf w c y j = jf u c y j := fun c y j h1 h2 => k.2.2 _ _ _ (by omega) fun z => (hA _ z).1 ⟨h1, h2⟩
  have pk : ∀ y l, pSg u y l → (lo < jF u y 0 ∨ jK u (jF u y 0) = 4001) → pSg w y l ∧ jF w y 0 = jF u y 0 ∧ ∀ j, jF w y j = jF u y j := fun y l hp hl => by
    have ny : ¬ A y := fun z => by have := (hA _ z).2.1; have := hp.1.2.2; omega
    have nb : ¬ A (jF u y 0) := fun z => by have := (hA _ z).2; have := hp.2.2.1.2.2; omega
    obtain ⟨p1, p2⟩ := hp.keep k ny nb
    exact ⟨p1, p2, fun j => k.F hp.1.2.1 ny j⟩
  refine ⟨B.gw k fun z hz => (hA z hz).1, ⟨by rw [F _ _ _ (by omega) (by omega)]; exact N.1, N.2.1, fun i hi => ?_⟩, ⟨by rw [F _ _ _ (by omega) (by omega)]; exact hI.1, fun i hi => by rw [F _ _ _ (by omega) (by omega), F _ _ _ (by omega) (by omega)]; exact hI.2 i hi⟩, ⟨by rw [F _ _ _ (by omega) (by omega)]; exact hO.1, hO.2.1, fun i hi => ?_⟩, by rw [F _ _ _ (by omega) (by omega)]; exact s1, s2, fun i hi => ?_⟩
  · rw [F _ _ _ (by omega) (by omega)]
    obtain ⟨⟨t1, t2, ⟨t3, t4⟩, t5⟩, h9⟩ := N.2.2 i hi
    obtain ⟨p1, p2, p3⟩ := pk _ _ t1 (.inl t5)
    exact ⟨⟨p1, by rw [k.K t1.1.2.1]; exact t2, ⟨by rw [p3]; exact t3, by rw [p3]; exact t4⟩, by rw [p2]; exact t5⟩, h9⟩
  · rw [F _ _ _ (by omega) (by omega)]
    obtain ⟨⟨h0, h1, h2⟩, h3, h4, h5⟩ := hO.2.2 i hi
    have ny : ¬ A (jf u 1024 (b + 2) i) := fun z => by have := (hA _ z).2.1; omega
    have G : ∀ j, jf w 63 (jf u 1024 (b + 2) i) j = jf u 63 (jf u 1024 (b + 2) i) j := fun j => k.2.2 _ _ _ h1 ny
    obtain ⟨p1, p2, p3⟩ := pk _ _ h4 h5
    have := k.1.1
    exact ⟨⟨h0, by omega, by rw [k.K h1]; exact h2⟩, by rw [G, G, G, G, G, G]; exact h3, by rw [G]; exact p1, by rw [G, p2, k.K h4.2.2.1.2.1]; exact h5⟩
  · rw [F _ _ _ (by omega) (by omega)]
    exact (s3 i hi).gw k fun z => by have := (hA _ z).2.1; have := (s3 i hi).1.2.2; omega
/-- the reader is made -/
theorem x_rdNew (n0 : 0 ≤ jn u) (hB : jBd u 3 36) (hT : 0 ≤ T ∧ T + 2 < jn u) (hK : jK u (T + 2) = 1001 ∧ jN u (T + 2) = 3000) (hg : ∀ k, 0 ≤ k → k < n → jf u 1001 (T + 2) k = sb (g k)) (hb : byG g n ∧ 0 ≤ n ∧ n ≤ 640) (B : bkI u c) (hC : pCon u) (h5 : jBd u (40 * n + 2300) (5400 * n + 901000)) :
    ∃ v w, jnw u 53 16 (jdf 53) = some (v, jn u) ∧ m_X44_init v (jn u) (T + 2) n c = some (w, 0) ∧ lB w (jn u) (jn u + 1) c (T + 2) g n (0, [], 0, 0) [] [] [] ∧ cRn w (jn u) g n 0 ∧ jf w 53 (jn u) 3 = 0 ∧ jf w 53 (jn u) 4 = 0 ∧ jGw u w 3 36 (fun z => z = c) ∧ jn u < jf w 8 (jn u + 1) 0 ∧ jGw u v 1 16 (fun _ => False) := by
  obtain ⟨b1, b2⟩ := hB
  have e1 : jnw u 53 16 (jdf 53) = some (jmk u 53 0 (jdf 53) 16, jn u) := by unfold jnw; exact if_pos ⟨n0, by omega, by omega⟩
  have fn : ∀ k, jf (jmk u 53 0 (jdf 53) 16) 53 (jn u) k = jdf 53 k := fun k => if_pos ⟨rfl, rfl⟩
  have kk : jK (jmk u 53 0 (jdf 53) 16) (jn u) = 53 := if_pos rfl
  have Gm : jGw u (jmk u 53 0 (jdf 53) 16) 1 16 (fun _ => False) := (jGw.rfl (A := fun _ => False)).mk.mono (by omega) (by omega) fun _ _ z => z
  have nm : jn (jmk u 53 0 (jdf 53) 16) = jn u + 1 := rfl
  have d2 : jdf 53 2 = 0 := by decide
  have d3 : jdf 53 3 = 0 := by decide
  have d4 : jdf 53 4 = 0 := by decide
  have d14 : jdf 53 14 = 0 := by decide
  have d15 : jdf 53 15 = 0 := by decide
  obtain ⟨v1, E1⟩ : ∃ v1, v1 = jmk u 53 0 (jdf 53) 16 := ⟨_, rfl⟩
  rw [← E1] at e1 fn kk Gm nm
  obtain ⟨v2, E2⟩ : ∃ v2, v2 = jp v1 53 (jn u) 9 (jc v1 193) := ⟨_, rfl⟩
  obtain ⟨f2, p2, K2, N2, n2⟩ := jpF E2
  have G2 := jGw_wr Gm E2 (.inr (Int.le_refl _))
  have l2 : jlN v2 = jlN u ∧ jlU v2 = jlU u := ⟨G2.1.2.2.2.1, G2.1.2.2.2.2.1⟩
  have u2 : ju v2 ≤ ju u + 16 := G2.1.2.2.1
  obtain ⟨s1, v3, a1, a2, a3, a4, a5⟩ := s_newB (M := 640) (s := v2) (by omega) (by omega) ⟨by omega, by omega⟩
  have n3 : jn v2 = jn u + 1 := n2.trans nm
  have G3 : jGw u v3 3 36 (fun _ => False) := (G2.trans a4 fun _ _ z => z.elim id id).mono (by omega) (by omega) fun _ _ z => z
  have F3 : ∀ j, jf v3 53 (jn u) j = jf v2 53 (jn u) j := fun j => a4.2.2 _ _ _ (by omega) fun z => z
  have k3 : jK v3 (jn u) = 53 := by rw [a4.K (by omega), K2]; exact kk
  rw [n3] at a1 a2 a3 a5
  obtain ⟨v4, E4⟩ : ∃ v4, v4 = jp v3 53 (jn u) 11 (jn u + 1) := ⟨_, rfl⟩
  obtain ⟨v5, E5⟩ : ∃ v5, v5 = jp v4 53 (jn u) 0 (T + 2) := ⟨_, rfl⟩
  obtain ⟨v6, E6⟩ : ∃ v6, v6 = jp v5 53 (jn u) 1 n := ⟨_, rfl⟩
  obtain ⟨v7, E7⟩ : ∃ v7, v7 = jp v6 53 (jn u) 10 c := ⟨_, rfl⟩
  obtain ⟨v8, E8⟩ : ∃ v8, v8 = jp v7 16 c 5 0 := ⟨_, rfl⟩
  obtain ⟨v9, E9⟩ : ∃ v9, v9 = jp v8 16 c 6 0 := ⟨_, rfl⟩
  obtain ⟨va, Ea⟩ : ∃ va, va = jp v9 16 c 7 0 := ⟨_, rfl⟩
  obtain ⟨vb, Eb⟩ : ∃ vb, vb = jp va 16 c 8 0 := ⟨_, rfl⟩
  obtain ⟨f4, p4, K4, N4, n4⟩ := jpF E4
  obtain ⟨f5, p5, K5, N5, n5⟩ := jpF E5
  obtain ⟨f6, p6, K6, N6, n6⟩ := jpF E6
  obtain ⟨f7, p7, K7, N7, n7⟩ := jpF E7
  obtain ⟨f8, p8, K8, N8, n8⟩ := jpF E8
  obtain ⟨f9, p9, K9, N9, n9⟩ := jpF E9
  obtain ⟨fa, pa, Ka, Na, na⟩ := jpF Ea
  obtain ⟨fb, pb, Kb, Nb, nb⟩ := jpF Eb
  have G4 := jGw_wr G3 E4 (.inr (Int.le_refl _))
  have G5 := jGw_wr G4 E5 (.inr (Int.le_refl _))
  have G6 := jGw_wr G5 E6 (.inr (Int.le_refl _))
  have G7 := jGw_wr G6 E7 (.inr (Int.le_refl _))
  have G7c : jGw u v7 3 36 (fun z => z = c) := G7.mono (Int.le_refl _) (Int.le_refl _) fun _ _ z => z.elim
  have G8 := jGw_wr G7c E8 (.inl rfl)
  have G9 := jGw_wr G8 E9 (.inl rfl)
  have Ga := jGw_wr G9 Ea (.inl rfl)
  have Gb := jGw_wr Ga Eb (.inl rfl)
  have hc := B.lt
  have c0 := B.1.1
  have FR : ∀ j, jf vb 53 (jn u) j = jf v7 53 (jn u) j := fun j => by rw [fb _ _ _ (by omega), fa _ _ _ (by omega), f9 _ _ _ (by omega), f8 _ _ _ (by omega)]
  have FR2 : ∀ j, ¬ (j = 0 ∨ j = 1 ∨ j = 10 ∨ j = 11 ∨ j = 9) → jf vb 53 (jn u) j = jdf 53 j := fun j hj => by
    rw [FR, f7 _ _ _ (by omega), f6 _ _ _ (by omega), f5 _ _ _ (by omega), f4 _ _ _ (by omega), F3, f2 _ _ _ (by omega), fn]
  have kx : jK v3 (jn u + 1) = 8 := a3.1.2.2
  have nR : ¬ jn u = jn u + 1 := by omega
  have FX : ∀ y, jn u < y → ∀ cc j, ¬ cc = 53 → jf vb cc y j = jf v3 cc y j := fun y hy cc j hcc => by
    rw [fb _ _ _ (by omega), fa _ _ _ (by omega), f9 _ _ _ (by omega), f8 _ _ _ (by omega), f7 _ _ _ (by omega), f6 _ _ _ (by omega), f5 _ _ _ (by omega), f4 _ _ _ (by omega)]
  have sg : jGw v3 vb 0 0 (fun z => z = jn u ∨ z = c) := jGw_wr (jGw_wr (jGw_wr (jGw_wr (jGw_wr (jGw_wr (jGw_wr (jGw_wr jGw.rfl E4 (.inl (.inl rfl))) E5 (.inl (.inl rfl))) E6 (.inl (.inl rfl))) E7 (.inl (.inl rfl))) E8 (.inl (.inr rfl))) E9 (.inl (.inr rfl))) Ea (.inl (.inr rfl))) Eb (.inl (.inr rfl))
  have hsb : pSb vb (jn u + 1) [] 640 ∧ jf vb 8 (jn u + 1) 0 = jf v3 8 (jn u + 1) 0 := a3.keep sg (fun z => by rcases z with z | z <;> omega) (fun z => by rcases z with z | z <;> omega)
  have hBc : bkI vb c := by
    have B7 := B.gw G7 fun _ z => z.elim
    have sm : ∀ j, j < 5 → jf vb 16 c j = jf v7 16 c j := fun j hj => by rw [fb _ _ _ (by omega), fa _ _ _ (by omega), f9 _ _ _ (by omega), f8 _ _ _ (by omega)]
    obtain ⟨⟨h1, h2, h3⟩, ⟨g0, g1, g2, g3, g4⟩, ⟨a1, a2⟩, ⟨b1, b2⟩, ⟨c1, c2⟩, ⟨d1, d2⟩, e1, e2⟩ := B7
    have KK : jK vb = jK v7 := Kb.trans (Ka.trans (K9.trans K8))
    have NN : jN vb = jN v7 := Nb.trans (Na.trans (N9.trans N8))
    exact ⟨⟨h1, by rw [nb, na, n9, n8]; exact h2, by rw [KK]; exact h3⟩, ⟨by rw [sm _ (by omega)]; exact g0, by rw [sm _ (by omega)]; exact g1, by rw [sm _ (by omega)]; exact g2, by rw [sm _ (by omega)]; exact g3, by rw [sm _ (by omega)]; exact g4⟩, ⟨by rw [KK]; exact a1, by rw [NN]; exact a2⟩, ⟨by rw [KK]; exact b1, by rw [NN]; exact b2⟩, ⟨by rw [KK]; exact c1, by rw [NN]; exact c2⟩, ⟨by rw [KK]; exact d1, by rw [NN]; exact d2⟩, by rw [KK]; exact e1, by rw [NN]; exact e2⟩
  have kR : jK vb (jn u) = 53 := by rw [Kb, Ka, K9, K8, K7, K6, K5, K4]; exact k3
  have nn3 : jn v2 ≤ jn v3 := a4.1.1
  have nnb : jn vb = jn v3 := by rw [nb, na, n9, n8, n7, n6, n5, n4]
  have hnc : ¬ T + 2 = c := fun z => by have := B.1.2.2; rw [← z] at this; omega
  have nx : jn u + 1 < jn v3 := a3.1.2.1
  have e4 : jf vb 53 (jn u) 4 = 0 := by rw [FR2 _ (by omega)]; exact d4
  have l0 : ∀ W, lkc vb (jn u) W = 0 := fun W => by unfold lkc; rw [if_neg (by omega)]
  have q0 : ∀ W, lkq vb (jn u) W = 0 := fun W => by unfold lkq; rw [if_neg (by omega)]
  have lb := Gb.1
  refine ⟨v1, vb, e1, ?_, ⟨⟨⟨⟨n0, by omega, kR⟩, by rw [FR, f7 _ _ _ (by omega), f6 _ _ _ (by omega)]; exact p5, by rw [FR, f7 _ _ _ (by omega)]; exact p6, by rw [FR]; exact p7, by rw [FR, f7 _ _ _ (by omega), f6 _ _ _ (by omega), f5 _ _ _ (by omega)]; exact p4, ⟨by omega, by omega, by rw [Gb.K (by omega)]; exact hK.1, by rw [Gb.N (by omega)]; exact hK.2⟩, fun j j0 j1 => by rw [Gb.2.2 _ _ _ (by omega) hnc]; exact hg j j0 j1, hb, ⟨[], hsb.1⟩, by rw [hsb.2]; omega, hC.keep Gb fun z hz => by rw [hz, B.1.2.2]; omega⟩, hBc, ⟨Int.le_refl _, hb.2.1⟩, .inl ⟨e4, by rw [FR2 _ (by omega)]; exact d2⟩, ⟨pb, Nat.zero_le _, fun i hi => absurd hi (Nat.not_lt_zero _)⟩, by rw [FR2 _ (by omega)]; exact d14, by rw [FR2 _ (by omega), d15]; rfl, by decide⟩, ⟨by rw [fb _ _ _ (by omega)]; exact pa, fun i hi => absurd hi (Nat.not_lt_zero _)⟩, ⟨by rw [fb _ _ _ (by omega), fa _ _ _ (by omega)]; exact p9, Nat.zero_le _, fun i hi => absurd hi (Nat.not_lt_zero _)⟩, ⟨by rw [fb _ _ _ (by omega), fa _ _ _ (by omega), f9 _ _ _ (by omega)]; exact p8, Nat.zero_le _, fun i hi => absurd hi (Nat.not_lt_zero _)⟩, by decide⟩, ⟨by omega, ?_, ?_⟩, by rw [FR2 _ (by omega)]; exact d3, e4, Gb, by rw [hsb.2]; omega, Gm⟩
  · rw [em_X44_init]; unfold dm_X44_init
    rw [jck0_in n0]
    simp only [jls]
    rw [← E2, a1, Option.bind_some, a2, Option.bind_some]
    show (jct (jp (jp (jp (jp v3 53 (jn u) 11 (jn u + 1)) 53 (jn u) 0 (T + 2)) 53 (jn u) 1 n) 53 (jn u) 10 c) 32 c _).bind _ = _
    rw [← E4, ← E5, ← E6, ← E7, jct_in (B.gw G7 fun _ z => z.elim).tt, em_X12_clear]; unfold dm_X12_clear
    simp only [jls]
    rw [← E8, ← E9, ← Ea, ← Eb, Option.bind_some]
  · rw [l0, lb.2.2.2.1]; have := h5.1; have := lb.2.1; omega
  · rw [q0, lb.2.2.2.2.1]; have := h5.2; have := lb.2.2.1; omega
end jCread
