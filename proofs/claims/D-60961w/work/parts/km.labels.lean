/-! the linker: labels, both sides. y = which label a key has (0), which symbol a label is for (1) *-/
set_option maxRecDepth 100000
section jLbl
variable {s t u w r q' : jS} {a b g k m n p v l x y0 c j X f i H C P Q P' Q' S : Int} {O : Int → Int → Int → Int → Int} {o : Int → Int → Int → Int} {d d' e z y y' : Int → Int → Int}
/-- a symbol's key: itself, or behind 600 its global -/
def kyO (O : Int → Int → Int → Int → Int) (e : Int → Int → Int) (X : Int) : Int := if sy O X 3 = 0 then X else 600 + e 1 X
def yOK (S : Int) (O : Int → Int → Int → Int → Int) (e d y : Int → Int → Int) : Prop := (∀ k, 0 ≤ k → k < 1200 → y 0 k = -1 ∨ (0 ≤ y 0 k ∧ y 0 k < d 0 2) ∧ kyO O e (y 1 (y 0 k)) = k) ∧ ∀ l, 0 ≤ l → l < d 0 2 → vsy S O (y 1 l) ∧ y 0 (kyO O e (y 1 l)) = l
def cLz (C S : Int) (O : Int → Int → Int → Int → Int) (s : jS) (e d y : Int → Int → Int) : Prop := jf s 39 (C + 4275) 31 = d 0 2 ∧ (∀ X, vsy S O X → sy O X 3 = 0 → jf s 1000 (C + 4275 + 24) X = y 0 X) ∧ (∀ g, 0 ≤ g → g < e 0 0 → jf s 1000 (C + 4275 + 23) g = y 0 (600 + g)) ∧ ∀ l, 0 ≤ l → l < d 0 2 → jf s 1000 (C + 4275 + 31) l = y 1 l / 100 ∧ jf s 1000 (C + 4275 + 32) l = y 1 l % 100
def tLz (H : Int) (t : jS) (y : Int → Int → Int) : Prop := ∀ k, 0 ≤ k → k < 1200 → jf t 1000 (H + 204) k = y 0 k
def LBL (C H S : Int) (O : Int → Int → Int → Int → Int) (s t : jS) (e d y : Int → Int → Int) : Prop := yOK S O e d y ∧ cLz C S O s e d y ∧ tLz H t y
theorem LBL.cg (h : LBL C H S O s t e d y) (he : d' 0 2 = d 0 2) (g : jLb C H s t u w) : LBL C H S O u w e d' y := by
  obtain ⟨⟨h1, h2⟩, ⟨h3, h4, h5, h6⟩, h7⟩ := h
  obtain ⟨⟨g1, g2, -⟩, g3⟩ := g
  refine ⟨⟨fun k k0 k1 => by rw [he]; exact h1 k k0 k1, fun l l0 l1 => h2 l l0 (by rw [he] at l1; exact l1)⟩, ⟨by rw [g2, he]; exact h3, fun X hX h0 => by rw [g1 _ _ (by omega)]; exact h4 X hX h0, fun g g0 g4 => by rw [g1 _ _ (by omega)]; exact h5 g g0 g4, fun l l0 l1 => ?_⟩, fun k k0 k1 => by rw [g3 _ _ (by omega)]; exact h7 k k0 k1⟩
  rw [g1 _ _ (by omega), g1 _ _ (by omega)]; exact h6 l l0 (by rw [he] at l1; exact l1)
theorem jLb.rfl : jLb C H s t s t := ⟨⟨fun _ _ _ => Eq.refl _, Eq.refl _, fun _ => Eq.refl _⟩, fun _ _ _ => Eq.refl _⟩
theorem cPz.dd (h : cPz C s d z) (e0 : d' 0 0 = d 0 0) (e1 : d' 0 1 = d 0 1) (e3 : ∀ p, d' 3 p = d 3 p) (e4 : ∀ p, d' 4 p = d 4 p) : cPz C s d' z := by
  obtain ⟨h1, h2, h3⟩ := h
  exact ⟨by rw [e1]; exact h1, fun k k0 k1 => h2 k k0 (by rw [e1] at k1; exact k1), fun p p0 p1 => by rw [e3, e4]; exact h3 p p0 (by rw [e0] at p1; exact p1)⟩
theorem tPz.dd (h : tPz H t d z) (e0 : d' 0 0 = d 0 0) (e1 : d' 0 1 = d 0 1) (e3 : ∀ p, d' 3 p = d 3 p) (e4 : ∀ p, d' 4 p = d 4 p) : tPz H t d' z := by
  obtain ⟨h1, h2, h3, h4⟩ := h
  exact ⟨fun k k0 k1 => h1 k k0 (by rw [e1] at k1; exact k1), fun p p0 p1 => by rw [e3, e4]; exact h2 p p0 (by rw [e0] at p1; exact p1), fun k k0 k1 => h3 k k0 (by rw [e1] at k1; exact k1), fun i i0 i1 hi => h4 i i0 i1 fun k k0 k1 => hi k k0 (by rw [e1]; exact k1)⟩
/-- only labels are more -/
def dOnly (d d' : Int → Int → Int) : Prop := (∀ f k, ¬ (f = 0 ∧ k = 2) → ¬ f = 12 → ¬ f = 13 → d' f k = d f k) ∧ d 0 2 ≤ d' 0 2
/-- no label is put yet -/
def unP (d : Int → Int → Int) : Prop := ∀ l, 0 ≤ l → l < d 0 2 → d 12 l = -1
/-- what labels of before are for stays -/
def yKp (d d' y y' : Int → Int → Int) : Prop := (∀ l, l < d 0 2 → y' 1 l = y 1 l) ∧ (unP d → unP d')
/-- what asking for a label leaves -/
def lbQ (C H S : Int) (O : Int → Int → Int → Int → Int) (s t : jS) (e d z y : Int → Int → Int) (X : Int) (r : jS × Bool × Int) (q : jS × Int) : Prop := (lkX C H s t 2 15 r q.1 ∧ q.2 = -1) ∨ (r.2.1 = false ∧ q.2 = r.2.2 ∧ ¬ q.2 = -1 ∧ ∃ d' y', dOnly d d' ∧ yKp d d' y y' ∧ LBR C H r.1 q.1 d' z ∧ LBL C H S O r.1 q.1 e d' y' ∧ ((0 ≤ r.2.2 ∧ r.2.2 < d' 0 2) ∧ kyO O e (y' 1 r.2.2) = kyO O e X) ∧ (cBW C s r.1 1 9 ∧ tBW H t q.1) ∧ ((∀ k, jf r.1 1000 (C + 4275 + 22) k = jf s 1000 (C + 4275 + 22) k) ∧ ∀ k, jf r.1 1002 (C + 4275 + 37) k = jf s 1002 (C + 4275 + 37) k) ∧ ∀ a k, a = H + 195 ∨ a = H + 202 → jf q.1 1000 a k = jf t 1000 a k)
/-- a label more: the rows, pure -/
def yAd (y : Int → Int → Int) (N K X : Int) : Int → Int → Int := fun f k => if f = 0 ∧ k = K then N else if f = 1 ∧ k = N then X else y f k
theorem yOK.ad (h : yOK S O e d y) (hd : 0 ≤ d 0 2) (hX : vsy S O X) (hn : y 0 (kyO O e X) = -1) : yOK S O e (dLb d) (yAd y (d 0 2) (kyO O e X) X) := by
  obtain ⟨h1, h2⟩ := h
  have a1 : yAd y (d 0 2) (kyO O e X) X 1 (d 0 2) = X := by unfold yAd; rw [if_neg (by omega), if_pos ⟨rfl, rfl⟩]
  have a2 : ∀ l, ¬ l = d 0 2 → yAd y (d 0 2) (kyO O e X) X 1 l = y 1 l := fun l hl => by unfold yAd; rw [if_neg (by omega), if_neg (by omega)]
  have a3 : yAd y (d 0 2) (kyO O e X) X 0 (kyO O e X) = d 0 2 := by unfold yAd; rw [if_pos ⟨rfl, rfl⟩]
  have a4 : ∀ k, ¬ k = kyO O e X → yAd y (d 0 2) (kyO O e X) X 0 k = y 0 k := fun k hk => by unfold yAd; rw [if_neg (by omega), if_neg (by omega)]
  constructor
  · intro k k0 k1
    rw [dLb_0]
    by_cases c : k = kyO O e X
    · rw [c, a3, a1]; exact .inr ⟨by omega, rfl⟩
    · rw [a4 k c]
      rcases h1 k k0 k1 with q | ⟨q1, q2⟩
      · exact .inl q
      · exact .inr ⟨by omega, by rw [a2 _ (by omega)]; exact q2⟩
  · intro l l0 l1
    rw [dLb_0] at l1
    by_cases c : l = d 0 2
    · rw [c, a1, a3]; exact ⟨hX, rfl⟩
    · obtain ⟨q1, q2⟩ := h2 l l0 (by omega)
      rw [a2 l c, a4 _ (fun q => by rw [q, hn] at q2; omega)]
      exact ⟨q1, q2⟩
theorem x_labelFor (hB : LBR C H s t d z) (hL : LBL C H S O s t e d y) (hk : lkB C H S O s t) (hg : gGc C S O s e) (hgt : gFt H S O t e) (gv : gFv S O e) (hb : jBd s 2 15) (hX : vsy S O X) (hj : jf t 1000 (H + 187) j = X % 100) (j0 : 0 ≤ j) (j1 : j < 1800) : ∃ r q, m_X35_labelFor s (C + 4275) (X / 100) (X % 100) = some r ∧ m_X37_labelFor t H (X / 100) j = some q ∧ lbQ C H S O s t e d z y X r q := by
  obtain ⟨v, ⟨hc, hz⟩, hl, hy⟩ := hB
  obtain ⟨yo, ⟨c1, c2, c3, c4⟩, ty⟩ := hL
  have hX0 := hX.1
  have ht := hk.2.2.2.2.2
  have hC := hk.1
  have d2 := v.2.2.1
  have d0 := v.1
  have d1 := v.2.1
  have hky : 0 ≤ kyO O e X ∧ kyO O e X < 1200 ∧ (sy O X 3 = 0 → kyO O e X = X) ∧ (¬ sy O X 3 = 0 → kyO O e X = 600 + e 1 X ∧ 0 ≤ e 1 X ∧ e 1 X < e 0 0) := by
    unfold kyO
    by_cases q : sy O X 3 = 0
    · rw [if_pos q]; exact ⟨by omega, by omega, fun _ => rfl, fun z => absurd q z⟩
    · have g1 := gv.2.2 X ⟨hX, q⟩
      have g2 := gv.1.2.1
      rw [if_neg q]; exact ⟨by omega, by omega, fun z => absurd z q, fun _ => ⟨rfl, g1⟩⟩
  obtain ⟨K, hK⟩ : ∃ K, K = kyO O e X := ⟨_, rfl⟩
  have e600 := gv.1.2.1
  rw [← hK] at hky
  obtain ⟨ky0, ky1, kyl, kyg⟩ := hky
  have h3 : jf t 1000 (H + 180) X = sy O X 3 := (hk.sym hX).2.2.2.2.2.2.2.1
  -- the twin's key
  have et : m_X37_labelFor t H (X / 100) j = u_X37_labelFor_35 t H K := by
    rw [em_X37_labelFor]; unfold dm_X37_labelFor
    simp only [jlet]
    rw [jlt_in j0 j1, Option.bind_some, hj, W32_in (z := 100 * (X / 100)) (by omega) (by omega), W32_in (by omega) (by omega), show 100 * (X / 100) + X % 100 = X by omega, jlt_in (by omega) (by omega), Option.bind_some, h3]
    by_cases q : sy O X 3 = 0
    · rw [if_pos q, kyl q]
    · obtain ⟨g1, g2, g3⟩ := kyg q
      rw [if_neg q, jlt_in (by omega) (by omega), Option.bind_some, hgt.2.1 X ⟨hX, q⟩, W32_in (by omega) (by omega), g1]
  -- the component's key
  have ec : m_X35_labelFor s (C + 4275) (X / 100) (X % 100) = u_X35_labelFor_37 s (C + 4275) (X / 100) (X % 100) (if sy O X 3 = 0 then -1 else e 1 X) (y 0 K) := by
    rw [em_X35_labelFor]; unfold dm_X35_labelFor
    rw [W32_in (z := 100 * (X / 100)) (by omega) (by omega), W32_in (by omega) (by omega), show 100 * (X / 100) + X % 100 = X by omega, jlt_in (by omega) (by omega), Option.bind_some, hg.2.1 X hX]
    by_cases q : sy O X 3 = 0
    · rw [if_pos q, if_pos rfl, jlt_in (by omega) (by omega), Option.bind_some, c2 X hX q, kyl q]
    · obtain ⟨g1, g2, g3⟩ := kyg q
      rw [if_neg q, if_neg (by omega), jlt_in (by omega) (by omega), Option.bind_some, c3 _ g2 g3, g1]
  rw [ec, et, eu_X35_labelFor_37, eu_X37_labelFor_35]; unfold du_X35_labelFor_37 du_X37_labelFor_35
  rw [jlt_in ky0 ky1, Option.bind_some, ty K ky0 ky1]
  by_cases cy : y 0 K = -1
  · rw [if_pos cy, if_pos cy]
    obtain ⟨r1, e1, h1⟩ := c_llabel hc v ⟨by have := hb.1; omega, by have := hb.2; omega⟩
    obtain ⟨q1, e2, h2⟩ := t_llabel hl v
    rw [e1, e2, Option.bind_some, Option.bind_some]
    rcases h1 with ⟨n1, rfl⟩ | ⟨n1, r2, r3, r4⟩
    · rcases h2 with ⟨-, rfl⟩ | ⟨n2, -⟩
      · dsimp only
        rw [if_pos rfl, jst_in ky0 ky1, Option.bind_some]
        obtain ⟨x1, X1⟩ : ∃ x1, x1 = jp t 1000 (H + 204) K (-1) := ⟨_, rfl⟩
        obtain ⟨g1, p1, -⟩ := jpF X1
        rw [← X1, jlt_in ky0 ky1, Option.bind_some, p1, if_pos rfl]
        obtain ⟨u, x, w, e1, e2, x0, hx⟩ := lkX.mk (C := C) (H := H) (f := 6) (s := s) (t := x1) (by omega) ⟨by have := hb.1; omega, by have := hb.2; omega⟩ (by omega) (by rw [g1 _ _ _ (by omega)]; exact ht) (by decide) (-1) (-1)
        rw [e1, e2, Option.bind_some, Option.bind_some, eu_X37_labelFor_90]; unfold du_X37_labelFor_90
        dsimp only
        rw [jck0_in x0, jlt_in ky0 ky1, Option.bind_some]
        have hw : jf w 1000 (H + 204) K = -1 := by
          obtain ⟨u', e', -, -, F⟩ := t_refuse (t := x1) (H := H) (by rw [g1 _ _ _ (by omega)]; exact ht) 6 (-1) (-1)
          have := congrArg Prod.fst (Option.some.inj (e2.symm.trans e'))
          dsimp only at this
          rw [this, F _ _ _ (by omega)]; exact p1
        rw [hw]
        refine ⟨_, _, rfl, rfl, .inl ⟨?_, rfl⟩⟩
        exact (hx.pre (cBW.rfl.lf hc.2.1) ⟨jSm.rfl.wr X1, fun c a k a1 a2 a3 a4 => g1 _ _ _ (by omega)⟩).mono (by omega) (by omega)
      · omega
    · rcases h2 with ⟨n2, -⟩ | ⟨n2, q2, q3, q4⟩
      · omega
      have tcount : jf r1.1 39 (C + 4275) 31 = d 0 2 := by rw [r4.2 _ _ _ (by omega) (by omega)]; exact c1
      rw [r2, q2, if_neg (show ¬ d 0 2 = -1 by omega), jst_in ky0 ky1, Option.bind_some]
      -- the twin
      obtain ⟨x1, X1⟩ : ∃ x1, x1 = jp q1.1 1000 (H + 204) K (d 0 2) := ⟨_, rfl⟩
      obtain ⟨g1, p1, -⟩ := jpF X1
      rw [← X1, jlt_in ky0 ky1, Option.bind_some, p1, if_neg (show ¬ d 0 2 = -1 by omega), eu_X37_labelFor_90]; unfold du_X37_labelFor_90
      rw [jlt_in ky0 ky1, Option.bind_some, p1]
      -- the component
      have key : ∃ y1 A B', ((A = C + 4275 + 24 ∧ sy O X 3 = 0 ∧ B' = X) ∨ (A = C + 4275 + 23 ∧ ¬ sy O X 3 = 0 ∧ B' = e 1 X)) ∧ y1 = jp r1.1 1000 A B' (d 0 2) ∧ (if (if sy O X 3 = 0 then -1 else e 1 X) = -1 then (jst r1.1 1000 (C + 4275 + 24) 600 (W32 (W32 (100 * (X / 100)) + X % 100)) (d 0 2)).bind fun s3 => u_X35_labelFor_101 s3 (C + 4275) (X / 100) (X % 100) (d 0 2) else (jst r1.1 1000 (C + 4275 + 23) 600 (if sy O X 3 = 0 then -1 else e 1 X) (d 0 2)).bind fun s4 => u_X35_labelFor_101 s4 (C + 4275) (X / 100) (X % 100) (d 0 2)) = u_X35_labelFor_101 y1 (C + 4275) (X / 100) (X % 100) (d 0 2) := by
        by_cases q : sy O X 3 = 0
        · rw [if_pos q, if_pos rfl, W32_in (z := 100 * (X / 100)) (by omega) (by omega), W32_in (by omega) (by omega), show 100 * (X / 100) + X % 100 = X by omega, jst_in (by omega) (by omega), Option.bind_some]
          exact ⟨_, _, _, .inl ⟨rfl, q, rfl⟩, rfl, rfl⟩
        · obtain ⟨g1, g2, g3⟩ := kyg q
          rw [if_neg q, if_neg (by omega), jst_in (by omega) (by omega), Option.bind_some]
          exact ⟨_, _, _, .inr ⟨rfl, q, rfl⟩, rfl, rfl⟩
      obtain ⟨y1, A, B', hA, Y1, ek⟩ := key
      rw [ek, eu_X35_labelFor_101]; unfold du_X35_labelFor_101
      have hA' : A = C + 4275 + 24 ∨ A = C + 4275 + 23 := by rcases hA with q | q; exact .inl q.1; exact .inr q.1
      obtain ⟨f1, v1, -⟩ := jpF Y1
      rw [jst_in (by omega) (by omega), Option.bind_some]
      obtain ⟨y2, Y2⟩ : ∃ y2, y2 = jp y1 1000 (C + 4275 + 31) (d 0 2) (X / 100) := ⟨_, rfl⟩
      obtain ⟨f2, v2, -⟩ := jpF Y2
      rw [← Y2, jst_in (by omega) (by omega), Option.bind_some]
      obtain ⟨y3, Y3⟩ : ∃ y3, y3 = jp y2 1000 (C + 4275 + 32) (d 0 2) (X % 100) := ⟨_, rfl⟩
      obtain ⟨f3, v3, -⟩ := jpF Y3
      rw [← Y3, W32_in (by omega) (by omega)]
      obtain ⟨y4, E_y4⟩ : ∃ y4, y4 = jp y3 39 (C + 4275) 31 (d 0 2 + 1) := ⟨_, rfl⟩
      obtain ⟨f_y4, p_y4, -⟩ := jpF E_y4
      rw [jls_e, ← E_y4]
      have FY : ∀ c a k, ¬ (c = 1000 ∧ (C + 4275 + 23 ≤ a ∧ a ≤ C + 4275 + 24 ∨ C + 4275 + 31 ≤ a ∧ a ≤ C + 4275 + 32)) → ¬ (c = 39 ∧ a = C + 4275 ∧ k = 31) → jf y4 c a k = jf r1.1 c a k := fun c a k h1 h2 => by
        rw [f_y4 _ _ _ (by omega), f3 _ _ _ (by omega), f2 _ _ _ (by omega), f1 _ _ _ (by omega)]
      have sm : jSm r1.1 y4 := (((jSm.rfl.wr Y1).wr Y2).wr Y3).wr E_y4
      have only : dOnly d (dLb d) := ⟨fun f k h1 h2 h3 => dLb_no h1 (by omega), by rw [dLb_0]; omega⟩
      have cp : cPz C y4 (dLb d) z := ((hz.cg (u := y4) (fun a k a0 a1 => by rw [FY _ _ _ (by omega) (by omega), r4.2 _ _ _ (by omega) (by omega)]) (by rw [FY _ _ _ (by omega) (by omega), r4.2 _ _ _ (by omega) (by omega)])).dd (only.1 _ _ (by omega) (by omega) (by omega)) (only.1 _ _ (by omega) (by omega) (by omega)) (fun p => only.1 _ _ (by omega) (by omega) (by omega)) (fun p => only.1 _ _ (by omega) (by omega) (by omega)))
      have tp : tPz H x1 (dLb d) z := ((hy.cg (u := x1) (fun a k a0 a1 => by rw [g1 _ _ _ (by omega), q4.2 _ _ _ (by omega) (by omega)])).dd (only.1 _ _ (by omega) (by omega) (by omega)) (only.1 _ _ (by omega) (by omega) (by omega)) (fun p => only.1 _ _ (by omega) (by omega) (by omega)) (fun p => only.1 _ _ (by omega) (by omega) (by omega)))
      have vl := v.lb n1
      have yad := yo.ad d2.1 hX (by rw [← hK]; exact cy)
      rw [← hK] at yad
      refine ⟨_, _, rfl, rfl, .inr ⟨rfl, rfl, by omega, dLb d, yAd y (d 0 2) K X, only, ⟨fun l l1 => by unfold yAd; rw [if_neg (by omega), if_neg (by omega)], fun hu l l0 l1 => by
        rw [dLb_0] at l1
        by_cases c : l = d 0 2
        · unfold dLb; rw [if_neg (by omega), if_pos ⟨c, rfl⟩]
        · rw [dLb_no (by omega) (by omega)]; exact hu l l0 (by omega)⟩, ⟨vl, ⟨r3.fr vl sm fun c a k h1 h2 h3 => FY _ _ _ (by omega) (by omega), cp⟩, q3.fr (fun c a k hq => g1 _ _ _ (by omega)), tp⟩, ⟨yad, ⟨?_, fun X' hX' h0 => ?_, fun g' g0' g1' => ?_, fun l l0 l1 => ?_⟩, fun k k0 k1 => ?_⟩, ⟨⟨d2.1, by rw [dLb_0]; show d 0 2 < d 0 2 + 1; omega⟩, ?_⟩, ⟨?_, (tbW.bw q4).wr X1 (by omega)⟩, ⟨fun k => ?_, fun k => ?_⟩, fun a k ha => ?_⟩⟩
      · rw [dLb_0]; exact p_y4
      · have := hX'.1
        rw [f_y4 _ _ _ (by omega), f3 _ _ _ (by omega), f2 _ _ _ (by omega)]
        unfold yAd
        rw [if_neg (show ¬ ((0 : Int) = 1 ∧ X' = d 0 2) by omega)]
        by_cases cq : sy O X 3 = 0
        · by_cases cx : X' = X
          · rcases hA with ⟨a1, a2, a3⟩ | ⟨a1, a2, a3⟩
            · rw [if_pos ⟨rfl, by rw [kyl cq]; exact cx⟩, cx]
              rw [a1, a3] at v1; exact v1
            · exact absurd cq a2
          · rw [if_neg (by rw [kyl cq]; omega)]
            rcases hA with ⟨a1, a2, a3⟩ | ⟨a1, a2, a3⟩
            · rw [f1 _ _ _ (by omega), r4.2 _ _ _ (by omega) (by omega)]; exact c2 X' hX' h0
            · exact absurd cq a2
        · rw [if_neg (by have := (kyg cq); omega)]
          rcases hA with ⟨a1, a2, a3⟩ | ⟨a1, a2, a3⟩
          · exact absurd a2 cq
          · rw [f1 _ _ _ (by omega), r4.2 _ _ _ (by omega) (by omega)]; exact c2 X' hX' h0
      · rw [f_y4 _ _ _ (by omega), f3 _ _ _ (by omega), f2 _ _ _ (by omega)]
        unfold yAd
        rw [if_neg (show ¬ ((0 : Int) = 1 ∧ 600 + g' = d 0 2) by omega)]
        rcases hA with ⟨a1, a2, a3⟩ | ⟨a1, a2, a3⟩
        · rw [if_neg (by have := kyl a2; omega), f1 _ _ _ (by omega), r4.2 _ _ _ (by omega) (by omega)]; exact c3 g' g0' g1'
        · have kk := kyg a2
          by_cases cg : g' = e 1 X
          · rw [if_pos ⟨rfl, by omega⟩, cg]
            rw [a1, a3] at v1; exact v1
          · rw [if_neg (by omega), f1 _ _ _ (by omega), r4.2 _ _ _ (by omega) (by omega)]; exact c3 g' g0' g1'
      · rw [dLb_0] at l1
        rw [f_y4 _ _ _ (by omega), f_y4 _ _ _ (by omega)]
        unfold yAd
        rw [if_neg (show ¬ ((1 : Int) = 0 ∧ l = K) by omega)]
        by_cases cl : l = d 0 2
        · rw [if_pos ⟨rfl, cl⟩, cl, f3 _ (C + 4275 + 31) _ (by omega)]; exact ⟨v2, v3⟩
        · rw [if_neg (by omega), f3 _ _ _ (by omega), f3 _ _ _ (by omega), f2 _ _ _ (by omega), f2 _ _ _ (by omega), f1 _ _ _ (by omega), f1 _ _ _ (by omega), r4.2 _ _ _ (by omega) (by omega), r4.2 _ _ _ (by omega) (by omega)]
          exact c4 l l0 (by omega)
      · unfold yAd
        rw [if_neg (show ¬ ((0 : Int) = 1 ∧ k = d 0 2) by omega)]
        by_cases ck : k = K
        · rw [if_pos ⟨rfl, ck⟩, ck]; exact p1
        · rw [if_neg (by omega), g1 _ _ _ (by omega), q4.2 _ _ _ (by omega) (by omega)]; exact ty k k0 k1
      · show kyO O e (yAd y (d 0 2) K X 1 (d 0 2)) = _
        unfold yAd; rw [if_neg (by omega), if_pos ⟨rfl, rfl⟩]
      · exact (((r4.bw.wr Y1 (by omega) (by omega)).wr Y2 (by omega) (by omega)).wr Y3 (by omega) (by omega)).wr E_y4 (by omega) (by omega)
      · rw [FY _ _ _ (by omega) (by omega), r4.2 _ _ _ (by omega) (by omega)]
      · rw [FY _ _ _ (by omega) (by omega), r4.2 _ _ _ (by omega) (by omega)]
      · rw [g1 _ _ _ (by omega), q4.2 _ _ _ (by omega) (by omega)]
  · rw [if_neg cy, if_neg cy, Option.bind_some]
    rcases yo.1 K ky0 ky1 with q | ⟨q1, q2⟩
    · exact absurd q cy
    · exact ⟨_, _, rfl, rfl, .inr ⟨rfl, rfl, cy, d, y, ⟨fun _ _ _ _ _ => rfl, Int.le_refl _⟩, ⟨fun _ _ => rfl, id⟩, ⟨v, ⟨hc, hz⟩, hl, hy⟩, ⟨yo, ⟨c1, c2, c3, c4⟩, ty⟩, ⟨q1, by rw [q2, hK]⟩, ⟨cBW.rfl.mono (by omega) (by omega), tBW.rfl⟩, ⟨fun _ => rfl, fun _ => rfl⟩, fun _ _ _ => rfl⟩⟩
end jLbl
