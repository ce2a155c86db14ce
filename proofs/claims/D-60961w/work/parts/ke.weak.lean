/-! the linker: weak definitions, both sides -/
set_option maxRecDepth 100000
section jWeak
variable {s t u w r q' : jS} {a b g k m n p v l x y z c j X f i H C P Q P' Q' S : Int} {O : Int → Int → Int → Int → Int} {d e : Int → Int → Int} {E : Int → Int} {R : Type}
/-- the component goes over its list of units -/
theorem loopUC {C : List Int → jS → Option ((jS × List Int) ⊕ R)} {F : jS → Option R} (J : Int → jS → Prop) (V : Int → List Int) (h : J 0 s)
    (h1 : ∀ x s, 0 ≤ x → x < 6 → sIn S x → J x s → ∃ s', C (V (nIn S x.toNat)) s = some (.inl (s', V (nIn S x.toNat + 1))) ∧ J (x + 1) s')
    (h2 : ∀ x s, 0 ≤ x → x < 6 → ¬ sIn S x → J x s → J (x + 1) s)
    (h3 : ∀ s, J 6 s → C (V (nIn S 6)) s = jinr (F s)) : ∃ w, jlpW C (V 0) s = F w ∧ J 6 w := by
  have key : ∀ (m : Nat) (x : Int) (s : jS), 0 ≤ x → x ≤ 6 → 6 - x = m → J x s → ∃ w, jlpW C (V (nIn S x.toNat)) s = F w ∧ J 6 w := by
    intro m
    induction m with
    | zero =>
      intro x s x0 x1 hm hJ
      have : x = 6 := by omega
      subst this
      exact ⟨s, jlpW_r (h3 s hJ), hJ⟩
    | succ m ih =>
      intro x s x0 x1 hm hJ
      by_cases c : sIn S x
      · obtain ⟨s', e, hj⟩ := h1 x s x0 (by omega) c hJ
        obtain ⟨w, e1, e2⟩ := ih (x + 1) s' (by omega) (by omega) (by omega) hj
        rw [nIn_s x0, if_pos c] at e1
        exact ⟨w, by rw [jlpW_l e]; exact e1, e2⟩
      · obtain ⟨w, e1, e2⟩ := ih (x + 1) s (by omega) (by omega) (by omega) (h2 x s x0 (by omega) c hJ)
        rw [nIn_s x0, if_neg c, Int.add_zero] at e1
        exact ⟨w, e1, e2⟩
  exact key 6 0 s (Int.le_refl _) (by decide) (by decide) h
abbrev wkD (O : Int → Int → Int → Int → Int) (e : Int → Int → Int) (x : Int) : Prop := e 3 (e 1 x) = 0 ∧ sy O x 3 = 2 ∧ 0 ≤ sy O x 0 ∧ sy O x 0 ≤ 4
noncomputable def wkE (S : Int) (O : Int → Int → Int → Int → Int) (e : Int → Int → Int) : Nat → Int → Int → Int
  | 0 => e
  | n + 1 => if gsy S O n ∧ wkD O (wkE S O e n) n then gB (wkE S O e n) n (wkE S O e n 1 n) else wkE S O e n
theorem wkE_s (x0 : 0 ≤ x) : wkE S O e (x + 1).toNat = if gsy S O x ∧ wkD O (wkE S O e x.toNat) x then gB (wkE S O e x.toNat) x (wkE S O e x.toNat 1 x) else wkE S O e x.toNat := by
  rw [show (x + 1).toNat = x.toNat + 1 by omega]
  show (if gsy S O ((x.toNat : Nat) : Int) ∧ wkD O (wkE S O e x.toNat) ((x.toNat : Nat) : Int) then gB (wkE S O e x.toNat) ((x.toNat : Nat) : Int) (wkE S O e x.toNat 1 ((x.toNat : Nat) : Int)) else wkE S O e x.toNat) = _
  rw [show ((x.toNat : Nat) : Int) = x by omega]
theorem wkE_k (n : Nat) : ∀ m : Nat, (∀ x : Int, n ≤ x → x < n + m → ¬ gsy S O x) → wkE S O e (n + m) = wkE S O e n
  | 0, _ => rfl
  | m + 1, h => by
    have h1 := wkE_k n m fun x x0 x1 => h x x0 (by omega)
    have hn : ¬ (gsy S O ((n + m : Nat) : Int) ∧ wkD O (wkE S O e (n + m)) ((n + m : Nat) : Int)) := fun z => h ((n + m : Nat) : Int) (by omega) (by omega) z.1
    show (if gsy S O ((n + m : Nat) : Int) ∧ wkD O (wkE S O e (n + m)) ((n + m : Nat) : Int) then _ else wkE S O e (n + m)) = _
    rw [if_neg hn, h1]
theorem wkE_sk (n0 : 0 ≤ n) (hm : n ≤ m) (h : ∀ x, n ≤ x → x < m → ¬ gsy S O x) : wkE S O e m.toNat = wkE S O e n.toNat := by
  have := wkE_k (S := S) (O := O) (e := e) n.toNat (m.toNat - n.toNat) fun x x0 x1 => h x (by omega) (by omega)
  rw [show n.toNat + (m.toNat - n.toNat) = m.toNat by omega] at this
  exact this
theorem gFv.wk (h : gFv S O e) (hx : gsy S O x) (hg : g = e 1 x) (hw : 0 ≤ sy O x 0 ∧ sy O x 0 ≤ 4) : gFv S O (gB e x g) := by
  obtain ⟨⟨n0, n1, n2⟩, h2, h3⟩ := h
  have E0 : gB e x g 0 0 = e 0 0 := gB_no (by omega)
  have E1 : ∀ k, gB e x g 1 k = e 1 k := fun k => gB_no (by omega)
  have E2 : ∀ k, gB e x g 2 k = e 2 k := fun k => gB_no (by omega)
  refine ⟨⟨by rw [E0]; exact n0, by rw [E0]; exact n1, fun j i j0 j1 i1 => by rw [E2, E2]; rw [E0] at i1; exact n2 j i j0 j1 i1⟩, fun j j0 j1 => ?_, fun k hk => by rw [E1, E0]; exact h3 k hk⟩
  rw [E0] at j1
  obtain ⟨a1, a2, a3, a4, a5⟩ := h2 j j0 j1
  rw [E2, E1, gB_no (f := 5) (by omega), gB_no (f := 6) (by omega), gB_no (f := 7) (by omega)]
  by_cases c : j = g
  · rw [c, gB_3, gB_4, E1]
    rw [c] at a1
    exact ⟨a1, by decide, fun _ => ⟨⟨hx, hg.symm⟩, hw⟩, fun z => absurd z (by decide), fun z => absurd z (by decide)⟩
  · rw [gB_no (f := 3) (by omega), gB_no (f := 4) (by omega), E1]
    exact ⟨a1, a2, a3, a4, a5⟩
theorem wkE_v (h : gFv S O e) : ∀ n : Nat, gFv S O (wkE S O e n)
  | 0 => h
  | n + 1 => by
    have := wkE_v h n
    show gFv S O (if gsy S O n ∧ wkD O (wkE S O e n) n then _ else wkE S O e n)
    by_cases c : gsy S O n ∧ wkD O (wkE S O e n) n
    · rw [if_pos c]; exact this.wk c.1 rfl c.2.2.2
    · rw [if_neg c]; exact this
theorem gFc.mean (h : gFc C S O s e) (g0 : 0 ≤ g) (g1 : g < e 0 0) (g6 : g < 600) : ∃ u, m_X35_means s (C + 4275) g 0 (x / 100) (x % 100) = some (u, 0) ∧ gFc C S O u (gB e x g) ∧ gW C s u := by
  rw [em_X35_means]; unfold dm_X35_means
  rw [jst_in g0 g6, Option.bind_some, jst_in g0 g6, Option.bind_some, jst_in g0 g6, Option.bind_some]
  obtain ⟨y1, Y1⟩ : ∃ y1, y1 = jp s 1000 (C + 4275 + 17) g 0 := ⟨_, rfl⟩
  obtain ⟨f1, p1, -⟩ := jpF Y1
  obtain ⟨y2, Y2⟩ : ∃ y2, y2 = jp y1 1000 (C + 4275 + 18) g (x / 100) := ⟨_, rfl⟩
  obtain ⟨f2, p2, -⟩ := jpF Y2
  obtain ⟨y3, Y3⟩ : ∃ y3, y3 = jp y2 1000 (C + 4275 + 19) g (x % 100) := ⟨_, rfl⟩
  obtain ⟨f3, p3, -⟩ := jpF Y3
  rw [← Y1, ← Y2, ← Y3]
  have FY : ∀ c a k, ¬ (c = 1000 ∧ C + 4275 + 17 ≤ a ∧ a ≤ C + 4275 + 19 ∧ k = g) → jf y3 c a k = jf s c a k := fun c a k q => by rw [f3 _ _ _ (by omega), f2 _ _ _ (by omega), f1 _ _ _ (by omega)]
  obtain ⟨h1, h2, h3⟩ := h
  have B1 : gB e x g 1 = e 1 := funext fun k => gB_no (by omega)
  have B0 : gB e x g 0 0 = e 0 0 := gB_no (by omega)
  refine ⟨y3, rfl, ⟨by rw [B0, FY _ _ _ (by omega)]; exact h1, fun x hx => by rw [B1, FY _ _ _ (by omega), FY _ _ _ (by omega)]; exact h2 x hx, fun j j0 j1 => ?_⟩, ((gW.rfl.wr Y1 (by omega)).wr Y2 (by omega)).wr Y3 (by omega)⟩
  rw [B0] at j1
  obtain ⟨⟨a1, a2⟩, a3, a4, a5, a6, a7⟩ := h3 j j0 j1
  rw [gB_no (f := 2) (by omega), gB_no (f := 5) (by omega), gB_no (f := 6) (by omega), gB_no (f := 7) (by omega), FY _ (C + 4275 + 15) _ (by omega), FY _ (C + 4275 + 16) _ (by omega), FY _ (C + 4275 + 20) _ (by omega), FY _ (C + 4275 + 21) _ (by omega), FY _ (C + 4275 + 23) _ (by omega)]
  refine ⟨⟨a1, a2⟩, ?_⟩
  by_cases c : j = g
  · rw [c, gB_3, gB_4]
    refine ⟨?_, fun _ => ⟨?_, p3⟩, fun z => absurd z (by decide), fun z => absurd z (by decide), by rw [← c]; exact a7⟩
    · rw [f3 _ _ _ (by omega), f2 _ _ _ (by omega)]; exact p1
    · rw [f3 _ _ _ (by omega)]; exact p2
  · rw [gB_no (f := 3) (by omega), gB_no (f := 4) (by omega), FY _ (C + 4275 + 17) _ (by omega), FY _ (C + 4275 + 18) _ (by omega), FY _ (C + 4275 + 19) _ (by omega)]
    exact ⟨a3, a4, a5, a6, a7⟩
theorem hC_4 {h : Int} (h0 : 0 ≤ h) (h1 : h ≤ 4) : hC h = 4 ↔ h = 0 := by
  have : h = 0 ∨ h = 1 ∨ h = 2 ∨ h = 3 ∨ h = 4 := by omega
  rcases this with rfl | rfl | rfl | rfl | rfl <;> decide
theorem c_weak (h : lkB C H S O s t) (hg : gFc C S O s e) (hV : gFv S O e) : ∃ w, m_X35_meanRest s (C + 4275) = u_X35_meanRest_118 w (C + 4275) ∧ gFc C S O w (wkE S O e 600) ∧ gW C s w := by
  rw [em_X35_meanRest]; unfold dm_X35_meanRest
  rw [eu_X35_meanRest_2]; unfold du_X35_meanRest_2
  have hn6 := nIn_lo (S := S) 6
  have C0 := h.1.1
  obtain ⟨w, ew, w1, w2⟩ := loopUC (S := S) (C := jc2 b_X35_meanRest_2) (F := fun w => u_X35_meanRest_118 w (C + 4275)) (fun x w => gFc C S O w (wkE S O e (100 * x).toNat) ∧ gW C s w) (fun i => [C + 4275, i]) (s := s) ⟨hg, gW.rfl⟩ (fun x w x0 x1 hx ⟨j1, j2⟩ => by
    have hB := h.gw j2
    obtain ⟨z1, z2, z3, z4⟩ := hB.2.2.1 x x0 x1 hx
    obtain ⟨-, -, n2, n3, -, -⟩ := z3.2.2.1
    have hi := nIn_lt hx x0 (show x < 6 by omega)
    have hi0 := nIn_lo (S := S) x.toNat
    have hi' : nIn S x.toNat < nIn S (6 : Int).toNat := hi
    show ∃ s', b_X35_meanRest_2 w (C + 4275) (nIn S x.toNat) = some (.inl (s', [C + 4275, nIn S x.toNat + 1])) ∧ _
    unfold b_X35_meanRest_2
    rw [hB.2.1.1, if_pos hi', jlt_in hi0.1 (by have : nIn S (6 : Int).toNat ≤ 6 := hn6.2; omega), Option.bind_some, hB.2.1.2 x x0 (by omega) hx, eu_X35_meanRest_19]; unfold du_X35_meanRest_19
    obtain ⟨w', e', k1, k2⟩ := loopTo (C := jc4 b_X35_meanRest_19) (fun k w => gFc C S O w (wkE S O e (100 * x + k).toNat) ∧ gW C s w) (fun k => [C + 4275, nIn S x.toNat, x, k]) 0 (O x 2 1 0) n2 (s := w) (F := fun w => some (.inl (w, [C + 4275, nIn S x.toNat + 1]))) ⟨by rw [Int.add_zero]; exact j1, j2⟩ (fun k w k0 k1 ⟨j1, j2⟩ => by
      have hB := h.gw j2
      have ex : (100 * x + k) / 100 = x := by omega
      have em : (100 * x + k) % 100 = k := by omega
      have hv : vsy S O (100 * x + k) := ⟨⟨by omega, by omega⟩, by rw [ex]; exact hx, by rw [ex, em]; exact k1⟩
      obtain ⟨z1, z2, z3, z4⟩ := hB.2.2.1 x x0 x1 hx
      have eA : C + 4275 + -4000 + 4041 + 1858 * x = fAt C x := by unfold fAt; omega
      obtain ⟨s1, s2, ⟨s3, s4, -, -⟩, -, -⟩ := hB.sym hv
      rw [ex, em] at s1
      have hVn := wkE_v hV (100 * x + k).toNat
      have hs := wkE_s (S := S) (O := O) (e := e) (x := 100 * x + k) (by omega)
      have wk : W32 (k + 1) = k + 1 := W32_in (by omega) (by omega)
      obtain ⟨E, hE⟩ : ∃ E, E = wkE S O e (100 * x + k).toNat := ⟨_, rfl⟩
      rw [← hE] at hs j1 hVn
      have fin : ∀ w', (gFc C S O w' (wkE S O e (100 * x + k + 1).toNat) ∧ gW C s w') → ∃ s', u_X35_meanRest_106 w' (C + 4275) (nIn S x.toNat) x k = some (.inl (s', [C + 4275, nIn S x.toNat, x, k + 1])) ∧ (gFc C S O s' (wkE S O e (100 * x + (k + 1)).toNat) ∧ gW C s s') := fun w' hw => by
        rw [eu_X35_meanRest_106]; unfold du_X35_meanRest_106
        rw [wk]
        exact ⟨w', rfl, by rw [show 100 * x + (k + 1) = 100 * x + k + 1 by omega]; exact hw⟩
      have stay : ¬ (gsy S O (100 * x + k) ∧ wkD O E (100 * x + k)) → gFc C S O w (wkE S O e (100 * x + k + 1).toNat) ∧ gW C s w := fun hn => by
        rw [hs, if_neg hn]; exact ⟨j1, j2⟩
      show ∃ s', b_X35_meanRest_19 w (C + 4275) (nIn S x.toNat) x k = some (.inl (s', [C + 4275, nIn S x.toNat, x, k + 1])) ∧ _
      unfold b_X35_meanRest_19
      rw [jix_in x0 x1, Option.bind_some, eA, c_qCt z1 z3 z4, Option.bind_some, show qCt (O x) 1 = O x 2 1 0 from rfl, if_pos k1, s1, Option.bind_some, W32_in (z := 100 * x) (by omega) (by omega), W32_in (z := 100 * x + k) (by omega) (by omega), jlt_in (by omega) (by omega), Option.bind_some, (j1.2.1 _ hv).1]
      by_cases c0 : sy O (100 * x + k) 3 = 0
      · rw [if_pos c0, if_pos rfl]; exact fin w (stay fun z => z.1.2 c0)
      have hgx : gsy S O (100 * x + k) := ⟨hv, c0⟩
      obtain ⟨q0, q1⟩ := hVn.2.2 _ hgx
      have q6 := hVn.1.2.1
      obtain ⟨-, q3, -⟩ := hVn.2.1 _ q0 q1
      rw [if_neg c0, if_neg (by omega), jlt_in q0 (by omega), Option.bind_some, (j1.2.2 _ q0 q1).2.1]
      by_cases c4 : E 3 (E 1 (100 * x + k)) = 0
      rotate_left
      · rw [if_neg (fun z => c4 ((hC_4 q3.1 q3.2).mp z))]; exact fin w (stay fun z => c4 z.2.1)
      rw [if_pos ((hC_4 q3.1 q3.2).mpr c4), jrd_in s3 s4, Option.bind_some, s2.2.2.2.1]
      by_cases c2 : sy O (100 * x + k) 3 = 2
      rotate_left
      · rw [if_neg c2]; exact fin w (stay fun z => c2 z.2.2.1)
      rw [if_pos c2, jrd_in s3 s4, Option.bind_some, Option.bind_some, s2.1]
      by_cases c5 : sy O (100 * x + k) 0 < 0
      · rw [if_pos c5]; exact fin w (stay fun z => by have := z.2.2.2; omega)
      rw [if_neg c5]
      by_cases c6 : 4 < sy O (100 * x + k) 0
      · rw [if_pos c6]; exact fin w (stay fun z => by have := z.2.2.2; omega)
      obtain ⟨w', e', i1, i2⟩ := j1.mean (x := 100 * x + k) q0 q1 (by omega)
      rw [ex, em] at e'
      rw [if_neg c6, e', Option.bind_some]
      exact fin w' ⟨by rw [hs, if_pos ⟨hgx, c4, c2, by omega, by omega⟩]; exact i1, j2.trans i2⟩) (fun w ⟨j1, j2⟩ => by
      have hB := h.gw j2
      obtain ⟨z1, z2, z3, z4⟩ := hB.2.2.1 x x0 x1 hx
      have eA : C + 4275 + -4000 + 4041 + 1858 * x = fAt C x := by unfold fAt; omega
      show b_X35_meanRest_19 w (C + 4275) (nIn S x.toNat) x (O x 2 1 0) = _
      unfold b_X35_meanRest_19
      rw [jix_in x0 x1, Option.bind_some, eA, c_qCt z1 z3 z4, Option.bind_some, show qCt (O x) 1 = O x 2 1 0 from rfl, if_neg (Int.lt_irrefl _), eu_X35_meanRest_112]; unfold du_X35_meanRest_112
      rw [W32_in (by omega) (by omega)])
    refine ⟨w', e', ?_, k2⟩
    rw [wkE_sk (n := 100 * x + O x 2 1 0) (by omega) (by omega) fun y y0 y1 hy => by
      have e1 : y / 100 = x := by omega
      have := hy.1.2.2
      rw [e1] at this; omega]
    exact k1) (fun x w x0 x1 hx ⟨j1, j2⟩ => ⟨by
      rw [wkE_sk (n := 100 * x) (by omega) (by omega) fun y y0 y1 hy => by
        have e1 : y / 100 = x := by omega
        have := hy.1.2.1
        rw [e1] at this; exact hx this]
      exact j1, j2⟩) (fun w ⟨j1, j2⟩ => by
    have hB := h.gw j2
    show b_X35_meanRest_2 w (C + 4275) (nIn S 6) = _
    unfold b_X35_meanRest_2
    have : nIn S (6 : Int).toNat = nIn S 6 := rfl
    rw [hB.2.1.1, this, if_neg (Int.lt_irrefl _)])
  exact ⟨w, ew, w1, w2⟩
theorem gFt.mean {y : jS} (h : gFt H S O t e) (F : ∀ c a k, ¬ (c = 1000 ∧ (a = H + 191 ∨ a = H + 192) ∧ k = g) → jf y c a k = jf t c a k) (h1 : jf y 1000 (H + 191) g = 1) (h2 : jf y 1000 (H + 192) g = x) : gFt H S O y (gB e x g) := by
  obtain ⟨g1, g2, g3⟩ := h
  have B0 : gB e x g 0 0 = e 0 0 := gB_no (by omega)
  refine ⟨by rw [B0, F _ _ _ (by omega)]; exact g1, fun k hk => by rw [gB_no (by omega), F _ _ _ (by omega)]; exact g2 k hk, fun j j0 j1 => ?_⟩
  rw [B0] at j1
  obtain ⟨a1, a2, a3, a4, a5⟩ := g3 j j0 j1
  rw [gB_no (f := 2) (by omega), gB_no (f := 5) (by omega), gB_no (f := 6) (by omega), gB_no (f := 7) (by omega), F _ (H + 190) _ (by omega), F _ (H + 193) _ (by omega), F _ (H + 194) _ (by omega), F _ (H + 196) _ (by omega)]
  refine ⟨a1, ?_⟩
  by_cases c : j = g
  · rw [c, gB_3, gB_4]
    exact ⟨h1, fun _ => h2, fun z => absurd z (by decide), fun z => absurd z (by decide)⟩
  · rw [gB_no (f := 3) (by omega), gB_no (f := 4) (by omega), F _ (H + 191) _ (by omega), F _ (H + 192) _ (by omega)]
    exact ⟨a2, a3, a4, a5⟩
theorem t_weak (h : lkB C H S O s t) (hg : gFt H S O t e) (hV : gFv S O e) : ∃ w, u_X37_defineGlobals_9 t H 1 0 = some (.inl (w, [H, 1 + 1])) ∧ gFt H S O w (wkE S O e 600) ∧ tGw H t w := by
  obtain ⟨w, ew, w1, w2⟩ := t_rounds (C := C) (H := H) (S := S) (O := O) (s := s) (i := 1) (t := t) (fun n w => tGw H t w ∧ gFt H S O w (wkE S O e n.toNat)) (fun n w hj => h.tgw hj.1) (fun x w hx ⟨j1, j2⟩ => by
    have hB := h.tgw j1
    obtain ⟨-, -, -, y7, y8⟩ := hB.sym hx.1
    have x0 := hx.1.1
    have hVn := wkE_v hV x.toNat
    have hs := wkE_s (S := S) (O := O) (e := e) x0.1
    obtain ⟨E, hE⟩ : ∃ E, E = wkE S O e x.toNat := ⟨_, rfl⟩
    rw [← hE] at hs j2 hVn
    obtain ⟨q0, q1⟩ := hVn.2.2 _ hx
    have q6 := hVn.1.2.1
    rw [j2.2.1 x hx, em_X37_defineBy]; unfold dm_X37_defineBy
    rw [if_neg (show ¬ (1 : Int) = 0 by decide), eu_X37_defineBy_103]; unfold du_X37_defineBy_103
    rw [if_pos rfl, jlt_in q0 (by omega), Option.bind_some, (j2.2.2 _ q0 q1).2.1]
    have stay : ¬ wkD O E x → tGw H t w ∧ gFt H S O w (wkE S O e (x + 1).toNat) := fun hn => by
      rw [hs, if_neg (fun z => hn z.2)]; exact ⟨j1, j2⟩
    by_cases c4 : E 3 (E 1 x) = 0
    rotate_left
    · rw [if_neg c4]; exact ⟨w, rfl, stay fun z => c4 z.1⟩
    rw [if_pos c4, jlt_in x0.1 x0.2, Option.bind_some, y8.2.2.2.1]
    by_cases c2 : sy O x 3 = 2
    rotate_left
    · rw [if_neg c2]; exact ⟨w, rfl, stay fun z => c2 z.2.1⟩
    rw [if_pos c2, t_isDef y8 x0, Option.bind_some]
    by_cases c5 : 0 ≤ sy O x 0 ∧ sy O x 0 ≤ 4
    rotate_left
    · rw [if_neg c5, if_pos rfl]; exact ⟨w, rfl, stay fun z => c5 z.2.2⟩
    rw [if_pos c5, if_neg n10, jst_in q0 (by omega), Option.bind_some]
    obtain ⟨y2, Y2⟩ : ∃ y2, y2 = jp w 1000 (H + 191) (E 1 x) 1 := ⟨_, rfl⟩
    obtain ⟨f2, p2, -⟩ := jpF Y2
    rw [← Y2, jst_in q0 (by omega), Option.bind_some]
    obtain ⟨y3, Y3⟩ : ∃ y3, y3 = jp y2 1000 (H + 192) (E 1 x) x := ⟨_, rfl⟩
    obtain ⟨f3, p3, -⟩ := jpF Y3
    rw [← Y3]
    refine ⟨y3, rfl, (j1.wr Y2 (by omega)).wr Y3 (by omega), ?_⟩
    rw [hs, if_pos ⟨hx, c4, c2, c5⟩]
    exact j2.mean (fun c a k q => by rw [f3 _ _ _ (by omega), f2 _ _ _ (by omega)]) (by rw [f3 _ _ _ (by omega)]; exact p2) p3) (fun n m w a0 a1 a2 a3 ⟨j1, j2⟩ => ⟨j1, by rw [wkE_sk a0 a1 a3]; exact j2⟩) ⟨tGw.rfl, hg⟩ (by decide)
  exact ⟨w, ew, w2, w1⟩
end jWeak
