/-! the linker: globals, what they are; common ones with the twin -/
set_option maxRecDepth 100000
section jCommon
variable {s t u w r q' : jS} {a b g k m n p v l x y z c j X f i H C P Q P' Q' S : Int} {O : Int → Int → Int → Int → Int} {d e : Int → Int → Int} {E : Int → Int}
/-- globals, as both tell them: e = 0 count; of symbols 1 global; of globals 2 first symbol, 3 how (0 not yet, 1 symbol, 2 common, 3 rule, 4 nothing), 4 by which, 5 size, 6 alignment, 7 rule -/
def gFc (C S : Int) (O : Int → Int → Int → Int → Int) (s : jS) (e : Int → Int → Int) : Prop := jf s 39 (C + 4275) 20 = e 0 0 ∧ (∀ x, vsy S O x → (jf s 1000 (C + 4275 + 14) x = if sy O x 3 = 0 then -1 else e 1 x) ∧ jf s 1000 (C + 4275 + 24) x = -1) ∧
  ∀ g, 0 ≤ g → g < e 0 0 → (jf s 1000 (C + 4275 + 15) g = e 2 g / 100 ∧ jf s 1000 (C + 4275 + 16) g = e 2 g % 100) ∧ jf s 1000 (C + 4275 + 17) g = hC (e 3 g) ∧ (e 3 g = 1 → jf s 1000 (C + 4275 + 18) g = e 4 g / 100 ∧ jf s 1000 (C + 4275 + 19) g = e 4 g % 100) ∧ (e 3 g = 3 → jf s 1000 (C + 4275 + 19) g = e 7 g - 1) ∧ (e 3 g = 2 → jf s 1000 (C + 4275 + 20) g = e 5 g ∧ jf s 1000 (C + 4275 + 21) g = e 6 g) ∧ jf s 1000 (C + 4275 + 23) g = -1
def gFt (H S : Int) (O : Int → Int → Int → Int → Int) (t : jS) (e : Int → Int → Int) : Prop := jf t 41 H 81 = e 0 0 ∧ (∀ x, gsy S O x → jf t 1000 (H + 189) x = e 1 x) ∧
  ∀ g, 0 ≤ g → g < e 0 0 → jf t 1000 (H + 190) g = e 2 g ∧ jf t 1000 (H + 191) g = e 3 g ∧ (e 3 g = 1 → jf t 1000 (H + 192) g = e 4 g) ∧ (e 3 g = 2 → jf t 1000 (H + 193) g = e 5 g ∧ jf t 1000 (H + 194) g = e 6 g) ∧ (e 3 g = 3 → jf t 1000 (H + 196) g = e 7 g)
def gFv (S : Int) (O : Int → Int → Int → Int → Int) (e : Int → Int → Int) : Prop := (0 ≤ e 0 0 ∧ e 0 0 ≤ 600 ∧ gDs O e) ∧ (∀ g, 0 ≤ g → g < e 0 0 → (gsy S O (e 2 g) ∧ e 1 (e 2 g) = g) ∧ (0 ≤ e 3 g ∧ e 3 g ≤ 4) ∧ (e 3 g = 1 → (gsy S O (e 4 g) ∧ e 1 (e 4 g) = g) ∧ 0 ≤ sy O (e 4 g) 0 ∧ sy O (e 4 g) 0 ≤ 4) ∧ (e 3 g = 2 → (1 ≤ e 5 g ∧ e 5 g ≤ 4096) ∧ pPw (e 6 g)) ∧ (e 3 g = 3 → 1 ≤ e 7 g ∧ e 7 g ≤ 5)) ∧ ∀ x, gsy S O x → 0 ≤ e 1 x ∧ e 1 x < e 0 0
noncomputable def hS5 (S : Int) (O : Int → Int → Int → Int → Int) (e : Int → Int → Int) : Int → Int → Int := fun f k => if f = 5 then cmS S O (e 1) 600 k else if f = 6 then cmA S O (e 1) 600 k else hS S O e f k
theorem cm_lo (hv : ∀ x, gsy S O x → vSy (sy O x)) : ∀ n : Nat, (0 ≤ cmS S O E n g ∧ cmS S O E n g ≤ 4096) ∧ pPw (cmA S O E n g) ∧ (cmS S O E n g = 0 → cmA S O E n g = 1)
  | 0 => ⟨⟨Int.le_refl _, by show (0 : Int) ≤ 4096; decide⟩, .inl rfl, fun _ => rfl⟩
  | n + 1 => by
    obtain ⟨⟨h1, h2⟩, h3, h4⟩ := cm_lo hv n
    show (0 ≤ (if gsy S O n ∧ E n = g ∧ sy O n 0 = 5 then jmx (cmS S O E n g) (sy O n 2) else cmS S O E n g) ∧ (if gsy S O n ∧ E n = g ∧ sy O n 0 = 5 then jmx (cmS S O E n g) (sy O n 2) else cmS S O E n g) ≤ 4096) ∧ pPw (if gsy S O n ∧ E n = g ∧ sy O n 0 = 5 then jmx (cmA S O E n g) (sy O n 1) else cmA S O E n g) ∧ ((if gsy S O n ∧ E n = g ∧ sy O n 0 = 5 then jmx (cmS S O E n g) (sy O n 2) else cmS S O E n g) = 0 → (if gsy S O n ∧ E n = g ∧ sy O n 0 = 5 then jmx (cmA S O E n g) (sy O n 1) else cmA S O E n g) = 1)
    by_cases c : gsy S O n ∧ E n = g ∧ sy O n 0 = 5
    · have hw := (hv n c.1).2.2.2.2.2.2.2.2.2.2
      unfold wOK at hw
      rw [if_neg (by omega), if_neg (by omega), if_pos c.2.2] at hw
      obtain ⟨w1, w2, w3, -⟩ := hw
      rw [if_pos c, if_pos c]
      unfold jmx
      refine ⟨by split <;> omega, by split; exact w1; exact h3, fun z => ?_⟩
      split at z <;> omega
    · rw [if_neg c, if_neg c]; exact ⟨⟨h1, h2⟩, h3, h4⟩
theorem hS_no (h : ¬ f = 3) : hS S O e f k = e f k := by unfold hS; rw [if_neg (fun z => h z.1)]
theorem hS5_no (h : ¬ (f = 5 ∨ f = 6)) : hS5 S O e f k = hS S O e f k := by unfold hS5; rw [if_neg (by omega), if_neg (by omega)]
theorem hS5_1 : hS5 S O e 1 = e 1 := funext fun k => by rw [hS5_no (by decide), hS_no (by decide)]
theorem gFv.of (hV : gVd S O 600 e) (hv : ∀ x, gsy S O x → vSy (sy O x)) : gFv S O (hS5 S O e) := by
  obtain ⟨⟨n0, n1, n2⟩, v2, v3⟩ := hV
  have E0 : hS5 S O e 0 0 = e 0 0 := by rw [hS5_no (by decide), hS_no (by decide)]
  have E2 : ∀ k, hS5 S O e 2 k = e 2 k := fun k => by rw [hS5_no (by decide), hS_no (by decide)]
  have E4 : ∀ k, hS5 S O e 4 k = e 4 k := fun k => by rw [hS5_no (by decide), hS_no (by decide)]
  refine ⟨⟨by rw [E0]; exact n0, by rw [E0]; exact n1, fun j g j0 j1 g1 => by rw [E2, E2]; rw [E0] at g1; exact n2 j g j0 j1 g1⟩, fun g g0 g1 => ?_, fun x hx => by rw [hS5_1, E0]; exact v3 x hx.1.1.2 hx⟩
  rw [E0] at g1
  obtain ⟨⟨b1, b2, b3⟩, b4⟩ := v2 g g0 g1
  obtain ⟨⟨c1, c2⟩, c3, c4⟩ := cm_lo (E := e 1) (g := g) hv 600
  rw [E2, E4, hS5_1, show hS5 S O e 3 g = hS S O e 3 g from hS5_no (by decide), show hS5 S O e 5 g = cmS S O (e 1) 600 g from if_pos rfl, show hS5 S O e 6 g = cmA S O (e 1) 600 g from rfl]
  unfold hS
  by_cases c : (3 : Int) = 3 ∧ e 3 g = 0 ∧ 0 < cmS S O (e 1) 600 g
  · rw [if_pos c]
    exact ⟨⟨b1, b3⟩, by decide, fun z => absurd z (by decide), fun _ => ⟨by omega, c3⟩, fun z => absurd z (by decide)⟩
  · rw [if_neg c]
    refine ⟨⟨b1, b3⟩, by rcases b4 with z | z <;> omega, fun z => ?_, fun z => by rcases b4 with q | q <;> omega, fun z => by rcases b4 with q | q <;> omega⟩
    rcases b4 with q | ⟨-, ⟨q1, q2, q3⟩, q4⟩
    · omega
    · exact ⟨⟨q1, q3⟩, q4⟩
theorem gFc.of (h : gRc C S O s 600 (hS S O e)) (hV : gVd S O 600 e) : gFc C S O s (hS5 S O e) := by
  obtain ⟨h1, h2, h3, h4⟩ := h
  have E0 : hS5 S O e 0 0 = hS S O e 0 0 := hS5_no (by decide)
  have N1 : hS S O e 1 = e 1 := funext fun k => hS_no (by decide)
  refine ⟨by rw [E0]; exact h1, fun x hx => by rw [hS5_1, ← N1]; exact h2 x hx.1.2 hx, fun g g0 g1 => ?_⟩
  rw [E0] at g1
  obtain ⟨a1, a2, a3, a4⟩ := h3 g g0 g1
  obtain ⟨b1, b2⟩ := h4 g g0 g1
  rw [N1] at b1 b2
  have v2 := (hV.2.1 g g0 (by rw [hS_no (by decide)] at g1; exact g1)).2
  rw [show hS5 S O e 2 g = hS S O e 2 g from hS5_no (by decide), show hS5 S O e 3 g = hS S O e 3 g from hS5_no (by decide), show hS5 S O e 4 g = hS S O e 4 g from hS5_no (by decide)]
  refine ⟨a1, a2, a3, fun z => ?_, fun _ => ⟨b1, b2⟩, a4⟩
  unfold hS at z
  split at z
  · omega
  · rcases v2 with q | q <;> omega
/-- all symbols in the twin's order, for one round of definitions -/
theorem t_rounds (J : Int → jS → Prop) (hk : ∀ n w, J n w → lkB C H S O s w) (st : ∀ x w, gsy S O x → J x w → ∃ w', m_X37_defineBy w H x (jf w 1000 (H + 189) x) i = some (w', 0) ∧ J (x + 1) w') (sk : ∀ n m w, 0 ≤ n → n ≤ m → m ≤ 600 → (∀ x, n ≤ x → x < m → ¬ gsy S O x) → J n w → J m w) (h : J 0 t) (hi : 0 ≤ i ∧ i ≤ 5) : ∃ w, u_X37_defineGlobals_9 t H i 0 = some (.inl (w, [H, i + 1])) ∧ J 600 w := by
  rw [eu_X37_defineGlobals_9]; unfold du_X37_defineGlobals_9
  obtain ⟨w, e, h1⟩ := loopTo (C := jc3 b_X37_defineGlobals_9) (fun x w => J (100 * x) w) (fun x => [H, i, x]) 0 6 (by decide) (s := t) (F := fun w => some (.inl (w, [H, i + 1]))) h (fun x w x0 x1 hj => by
    have hB := hk _ _ hj
    show ∃ w', b_X37_defineGlobals_9 w H i x = some (.inl (w', [H, i, x + 1])) ∧ _
    unfold b_X37_defineGlobals_9
    rw [if_pos x1, t_isIn hB]
    by_cases hx : sIn S x
    rotate_left
    · rw [if_neg hx, Option.bind_some, if_pos rfl, eu_X37_defineGlobals_76]; unfold du_X37_defineGlobals_76
      rw [W32_in (z := x + 1) (by omega) (by omega)]
      exact ⟨w, rfl, sk _ _ w (by omega) (by omega) (by omega) (fun y y0 y1 hy => by
        have e1 : y / 100 = x := by omega
        have := hy.1.2.1
        rw [e1] at this; exact hx this) hj⟩
    obtain ⟨z1, z2, z3, z4⟩ := hB.2.2.1 x x0 x1 hx
    obtain ⟨-, -, n2, n3, -, -⟩ := z3.2.2.1
    rw [if_pos hx, Option.bind_some, if_neg n10, eu_X37_defineGlobals_28]; unfold du_X37_defineGlobals_28
    obtain ⟨w1, e1, h1⟩ := loopTo (C := jc4 b_X37_defineGlobals_28) (fun k w => J (100 * x + k) w) (fun k => [H, i, x, k]) 0 (O x 2 1 0) n2 (s := w) (F := fun w => u_X37_defineGlobals_76 w H i x) (by rw [Int.add_zero]; exact hj) (fun k w k0 k1 hj => by
      have hB := hk _ _ hj
      have ex : (100 * x + k) / 100 = x := by omega
      have em : (100 * x + k) % 100 = k := by omega
      have hv : vsy S O (100 * x + k) := ⟨⟨by omega, by omega⟩, by rw [ex]; exact hx, by rw [ex, em]; exact k1⟩
      obtain ⟨-, -, -, y7, y8⟩ := hB.sym hv
      obtain ⟨z1, z2, z3, z4⟩ := hB.2.2.1 x x0 x1 hx
      show ∃ w', b_X37_defineGlobals_28 w H i x k = some (.inl (w', [H, i, x, k + 1])) ∧ _
      unfold b_X37_defineGlobals_28
      rw [jlt_in x0 x1, Option.bind_some, z2.2.2.2.1.1, if_pos k1, jlet_e, W32_in (z := 100 * x) (by omega) (by omega), W32_in (z := 100 * x + k) (by omega) (by omega), jlt_in (by omega) (by omega), Option.bind_some, y8.2.2.2.1]
      by_cases c0 : sy O (100 * x + k) 3 = 0
      · rw [if_pos c0, eu_X37_defineGlobals_70]; unfold du_X37_defineGlobals_70
        rw [W32_in (z := k + 1) (by omega) (by omega)]
        exact ⟨w, rfl, sk _ _ w (by omega) (by omega) (by omega) (fun y y0 y1 hy => by
          have : y = 100 * x + k := by omega
          rw [this] at hy; exact hy.2 c0) hj⟩
      · obtain ⟨w', e', j'⟩ := st _ w ⟨hv, c0⟩ hj
        rw [if_neg c0, jlt_in (by omega) (by omega), Option.bind_some, e', Option.bind_some, eu_X37_defineGlobals_70]; unfold du_X37_defineGlobals_70
        rw [W32_in (z := k + 1) (by omega) (by omega)]
        exact ⟨w', rfl, by rw [show 100 * x + (k + 1) = 100 * x + k + 1 by omega]; exact j'⟩) (fun w hj => by
      have hB := hk _ _ hj
      obtain ⟨z1, z2, z3, z4⟩ := hB.2.2.1 x x0 x1 hx
      show b_X37_defineGlobals_28 w H i x (O x 2 1 0) = _
      unfold b_X37_defineGlobals_28
      rw [jlt_in x0 x1, Option.bind_some, z2.2.2.2.1.1, if_neg (Int.lt_irrefl _)])
    rw [e1, eu_X37_defineGlobals_76]; unfold du_X37_defineGlobals_76
    rw [W32_in (z := x + 1) (by omega) (by omega)]
    exact ⟨w1, rfl, sk _ _ w1 (by omega) (by omega) (by omega) (fun y y0 y1 hy => by
      have e1 : y / 100 = x := by omega
      have := hy.1.2.2
      rw [e1] at this; omega) h1⟩) (fun w hj => by
    show b_X37_defineGlobals_9 w H i 6 = _
    unfold b_X37_defineGlobals_9
    rw [if_neg (by decide), eu_X37_defineGlobals_82]; unfold du_X37_defineGlobals_82
    rw [W32_in (by omega) (by omega)])
  exact ⟨w, e, h1⟩
/-- the first round: common ones -/
def gR0 (H S : Int) (O : Int → Int → Int → Int → Int) (t : jS) (n : Int) (e : Int → Int → Int) : Prop := jf t 41 H 81 = e 0 0 ∧ (∀ x, gsy S O x → jf t 1000 (H + 189) x = e 1 x) ∧
  ∀ g, 0 ≤ g → g < e 0 0 → jf t 1000 (H + 190) g = e 2 g ∧ (e 3 g = 1 → jf t 1000 (H + 191) g = 1 ∧ jf t 1000 (H + 192) g = e 4 g) ∧ (e 3 g = 0 → (jf t 1000 (H + 191) g = if 0 < cmS S O (e 1) n.toNat g then 2 else 0) ∧ jf t 1000 (H + 193) g = cmS S O (e 1) n.toNat g ∧ (0 < cmS S O (e 1) n.toNat g → jf t 1000 (H + 194) g = cmA S O (e 1) n.toNat g) ∧ (cmS S O (e 1) n.toNat g = 0 → jf t 1000 (H + 194) g = 0))
theorem t_common (h : lkB C H S O s t) (hg : gRt H S O t 600 e) (hV : gVd S O 600 e) : ∃ w, u_X37_defineGlobals_9 t H 0 0 = some (.inl (w, [H, 0 + 1])) ∧ gFt H S O w (hS5 S O e) ∧ tGw H t w := by
  have hvs : ∀ x, gsy S O x → vSy (sy O x) := fun x hx => (h.sym hx.1).2.2.2.1
  obtain ⟨⟨n0, n1, n2⟩, v2, v3⟩ := hV
  obtain ⟨g1, g2, g3⟩ := hg
  obtain ⟨w, ew, w1, w2⟩ := t_rounds (C := C) (H := H) (S := S) (O := O) (s := s) (i := 0) (t := t) (fun n w => tGw H t w ∧ gR0 H S O w n e) (fun n w hj => h.tgw hj.1) (fun x w hx ⟨j1, j2, j3, j4⟩ => by
    have hB := h.tgw j1
    obtain ⟨-, -, -, y7, y8⟩ := hB.sym hx.1
    have x0 := hx.1.1
    obtain ⟨e0, e1⟩ := v3 x x0.2 hx
    have ge : jf w 1000 (H + 189) x = e 1 x := j3 x hx
    obtain ⟨g, hgg⟩ : ∃ g, g = e 1 x := ⟨_, rfl⟩
    rw [ge]
    rw [← hgg] at e0 e1 ⊢
    have g6 : g < 600 := by omega
    obtain ⟨cs1, cs2⟩ := cm_s (S := S) (O := O) (E := e 1) (g := g) x0.1
    obtain ⟨⟨d1, d2⟩, d3, d4⟩ := cm_lo (E := e 1) (g := g) hvs x.toNat
    have d3' : 1 ≤ cmA S O (e 1) x.toNat g := by unfold pPw at d3; omega
    have other : ∀ w', (∀ c a k, ¬ (c = 1000 ∧ (a = H + 191 ∨ a = H + 193 ∨ a = H + 194) ∧ k = g) → jf w' c a k = jf w c a k) → (∀ j, 0 ≤ j → j < e 0 0 → ¬ j = g → jf w' 1000 (H + 190) j = e 2 j ∧ (e 3 j = 1 → jf w' 1000 (H + 191) j = 1 ∧ jf w' 1000 (H + 192) j = e 4 j) ∧ (e 3 j = 0 → (jf w' 1000 (H + 191) j = if 0 < cmS S O (e 1) (x + 1).toNat j then 2 else 0) ∧ jf w' 1000 (H + 193) j = cmS S O (e 1) (x + 1).toNat j ∧ (0 < cmS S O (e 1) (x + 1).toNat j → jf w' 1000 (H + 194) j = cmA S O (e 1) (x + 1).toNat j) ∧ (cmS S O (e 1) (x + 1).toNat j = 0 → jf w' 1000 (H + 194) j = 0))) := fun w' F j j0 j1 hj => by
      obtain ⟨c1, c2⟩ := cm_s (S := S) (O := O) (E := e 1) (g := j) x0.1
      rw [if_neg (fun z => hj (by rw [hgg]; exact z.2.1.symm))] at c1 c2
      rw [F _ (H + 190) _ (by omega), F _ (H + 191) _ (by omega), F _ (H + 192) _ (by omega), F _ (H + 193) _ (by omega), F _ (H + 194) _ (by omega), c1, c2]
      exact j4 j j0 j1
    obtain ⟨a1, a2, a3⟩ := j4 g e0 e1
    rw [em_X37_defineBy]; unfold dm_X37_defineBy
    rw [if_pos rfl, jlt_in x0.1 x0.2, Option.bind_some, y8.1, eu_X37_defineBy_103]; unfold du_X37_defineBy_103
    rw [if_neg (show ¬ (0 : Int) = 1 by decide)]
    by_cases c5 : sy O x 0 = 5
    rotate_left
    · rw [if_neg c5]
      rw [if_neg (fun z => c5 z.2.2)] at cs1 cs2
      refine ⟨w, rfl, j1, j2, j3, fun j j0 jl => ?_⟩
      by_cases cj : j = g
      · rw [cj, cs1, cs2]; exact ⟨a1, a2, a3⟩
      · exact other w (fun _ _ _ _ => rfl) j j0 jl cj
    rw [if_pos c5, jlt_in e0 g6, Option.bind_some]
    have vg := (v2 g e0 e1).2
    by_cases c1 : e 3 g = 1
    · rw [(a2 c1).1, if_pos rfl]
      refine ⟨w, rfl, j1, j2, j3, fun j j0 jl => ?_⟩
      by_cases cj : j = g
      · rw [cj]; exact ⟨a1, a2, fun z => by omega⟩
      · exact other w (fun _ _ _ _ => rfl) j j0 jl cj
    have c0 : e 3 g = 0 := by
      rcases vg with z | z
      · exact z
      · exact absurd z.1 c1
    obtain ⟨b1, b2, b3, b4⟩ := a3 c0
    have hwo := y7.2.2.2.2.2.2.2.2.2.2
    unfold wOK at hwo
    rw [if_neg (by omega), if_neg (by omega), if_pos c5] at hwo
    obtain ⟨wo1, wo2, wo3, -⟩ := hwo
    have wo1' : 1 ≤ sy O x 1 := by unfold pPw at wo1; omega
    rw [if_neg (by rw [b1]; split <;> decide), jst_in e0 g6, Option.bind_some]
    obtain ⟨y1, Y1⟩ : ∃ y1, y1 = jp w 1000 (H + 191) g 2 := ⟨_, rfl⟩
    obtain ⟨f1, p1, -⟩ := jpF Y1
    rw [← Y1, jlt_in x0.1 x0.2, Option.bind_some, jlt_in e0 g6, Option.bind_some, f1 _ (H + 179) _ (by omega), y8.2.2.1, f1 _ (H + 193) _ (by omega), b2, Option.bind_some, Option.bind_some]
    have k66 : (if cmS S O (e 1) x.toNat g < sy O x 2 then u_X37_defineBy_66 y1 H x g 0 (sy O x 2) g (H + 193) else u_X37_defineBy_66 y1 H x g 0 (cmS S O (e 1) x.toNat g) g (H + 193)) = u_X37_defineBy_66 y1 H x g 0 (jmx (cmS S O (e 1) x.toNat g) (sy O x 2)) g (H + 193) := by
      unfold jmx; split <;> rfl
    rw [k66, eu_X37_defineBy_66]; unfold du_X37_defineBy_66
    rw [jst_in e0 g6, Option.bind_some]
    obtain ⟨y2, Y2⟩ : ∃ y2, y2 = jp y1 1000 (H + 193) g (jmx (cmS S O (e 1) x.toNat g) (sy O x 2)) := ⟨_, rfl⟩
    obtain ⟨f2, p2, -⟩ := jpF Y2
    obtain ⟨z94, hz94⟩ : ∃ z, z = jf w 1000 (H + 194) g := ⟨_, rfl⟩
    rw [← Y2, jlt_in x0.1 x0.2, Option.bind_some, jlt_in e0 g6, Option.bind_some, f2 _ (H + 178) _ (by omega), f1 _ (H + 178) _ (by omega), y8.2.1, f2 _ (H + 194) _ (by omega), f1 _ (H + 194) _ (by omega), ← hz94, Option.bind_some, Option.bind_some]
    have k102 : (if z94 < sy O x 1 then u_X37_defineBy_102 y2 H x g 0 (sy O x 1) g (H + 194) else u_X37_defineBy_102 y2 H x g 0 z94 g (H + 194)) = u_X37_defineBy_102 y2 H x g 0 (jmx (cmA S O (e 1) x.toNat g) (sy O x 1)) g (H + 194) := by
      by_cases cz : 0 < cmS S O (e 1) x.toNat g
      · rw [hz94, b3 cz]; unfold jmx; split <;> rfl
      · have z1 : cmS S O (e 1) x.toNat g = 0 := by omega
        rw [hz94, b4 z1, if_pos (by omega), d4 z1]
        unfold jmx
        by_cases c : 1 < sy O x 1
        · rw [if_pos c]
        · rw [if_neg c, show sy O x 1 = 1 by omega]
    rw [k102, eu_X37_defineBy_102]; unfold du_X37_defineBy_102
    rw [jst_in e0 g6, Option.bind_some]
    obtain ⟨y3, Y3⟩ : ∃ y3, y3 = jp y2 1000 (H + 194) g (jmx (cmA S O (e 1) x.toNat g) (sy O x 1)) := ⟨_, rfl⟩
    obtain ⟨f3, p3, -⟩ := jpF Y3
    rw [← Y3, eu_X37_defineBy_103]; unfold du_X37_defineBy_103
    rw [if_neg (show ¬ (0 : Int) = 1 by decide)]
    have FY : ∀ c a k, ¬ (c = 1000 ∧ (a = H + 191 ∨ a = H + 193 ∨ a = H + 194) ∧ k = g) → jf y3 c a k = jf w c a k := fun c a k q => by rw [f3 _ _ _ (by omega), f2 _ _ _ (by omega), f1 _ _ _ (by omega)]
    refine ⟨y3, rfl, ((j1.wr Y1 (by omega)).wr Y2 (by omega)).wr Y3 (by omega), by rw [FY _ _ _ (by omega)]; exact j2, fun k hk => by rw [FY _ _ _ (by omega)]; exact j3 k hk, fun j j0 jl => ?_⟩
    by_cases cj : j = g
    · rw [if_pos ⟨hx, hgg.symm, c5⟩] at cs1 cs2
      rw [cj, cs1, cs2, FY _ (H + 190) _ (by omega)]
      refine ⟨a1, fun z => by omega, fun _ => ⟨?_, ?_, fun _ => p3, fun z => ?_⟩⟩
      · rw [f3 _ _ _ (by omega), f2 _ _ _ (by omega), if_pos (by unfold jmx; split <;> omega)]; exact p1
      · rw [f3 _ _ _ (by omega)]; exact p2
      · unfold jmx at z; split at z <;> omega
    · exact other y3 FY j j0 jl cj) (fun n m w a0 a1 a2 a3 ⟨j1, j2, j3, j4⟩ => ⟨j1, j2, j3, fun g g0 gl => by
      have e : ∀ d : Nat, (∀ x : Int, n ≤ x → x < n + d → ¬ gsy S O x) → cmS S O (e 1) (n.toNat + d) g = cmS S O (e 1) n.toNat g ∧ cmA S O (e 1) (n.toNat + d) g = cmA S O (e 1) n.toNat g := fun d => by
        induction d with
        | zero => intro _; exact ⟨rfl, rfl⟩
        | succ d ih =>
          intro hd
          obtain ⟨i1, i2⟩ := ih fun x x0 x1 => hd x x0 (by omega)
          have hn : ¬ (gsy S O ((n.toNat + d : Nat) : Int) ∧ e 1 ((n.toNat + d : Nat) : Int) = g ∧ sy O ((n.toNat + d : Nat) : Int) 0 = 5) := fun z => hd ((n.toNat + d : Nat) : Int) (by omega) (by omega) z.1
          constructor
          · show (if gsy S O ((n.toNat + d : Nat) : Int) ∧ e 1 ((n.toNat + d : Nat) : Int) = g ∧ sy O ((n.toNat + d : Nat) : Int) 0 = 5 then _ else cmS S O (e 1) (n.toNat + d) g) = _
            rw [if_neg hn, i1]
          · show (if gsy S O ((n.toNat + d : Nat) : Int) ∧ e 1 ((n.toNat + d : Nat) : Int) = g ∧ sy O ((n.toNat + d : Nat) : Int) 0 = 5 then _ else cmA S O (e 1) (n.toNat + d) g) = _
            rw [if_neg hn, i2]
      obtain ⟨i1, i2⟩ := e (m.toNat - n.toNat) fun x x0 x1 => a3 x x0 (by omega)
      rw [show n.toNat + (m.toNat - n.toNat) = m.toNat by omega] at i1 i2
      rw [i1, i2]; exact j4 g g0 gl⟩) ⟨tGw.rfl, g1, fun x hx => g2 x hx.1.1.2 hx, fun g g0 gl => by
        obtain ⟨a1, a2, a3, a4, a5⟩ := g3 g g0 gl
        have c0 : cmS S O (e 1) (0 : Int).toNat g = 0 := rfl
        refine ⟨a1, fun z => ⟨by rw [a2]; exact z, a3 z⟩, fun z => ⟨by rw [a2, z, c0]; rfl, by rw [a4, c0], fun q => by omega, fun _ => a5⟩⟩⟩ (by decide)
  refine ⟨w, ew, ?_, w1⟩
  obtain ⟨j2, j3, j4⟩ := w2
  have E0 : hS5 S O e 0 0 = e 0 0 := by rw [hS5_no (by decide), hS_no (by decide)]
  refine ⟨by rw [E0]; exact j2, fun x hx => by rw [hS5_1]; exact j3 x hx, fun g g0 gl => ?_⟩
  rw [E0] at gl
  obtain ⟨a1, a2, a3⟩ := j4 g g0 gl
  have c600 : (600 : Int).toNat = 600 := rfl
  rw [c600] at a3
  rw [show hS5 S O e 2 g = e 2 g by rw [hS5_no (by decide), hS_no (by decide)], show hS5 S O e 4 g = e 4 g by rw [hS5_no (by decide), hS_no (by decide)], show hS5 S O e 3 g = hS S O e 3 g from hS5_no (by decide), show hS5 S O e 5 g = cmS S O (e 1) 600 g from if_pos rfl, show hS5 S O e 6 g = cmA S O (e 1) 600 g from rfl]
  unfold hS
  rcases (v2 g g0 gl).2 with z | ⟨z, -⟩
  · obtain ⟨b1, b2, b3, b4⟩ := a3 z
    by_cases c : 0 < cmS S O (e 1) 600 g
    · rw [if_pos ⟨rfl, z, c⟩]
      rw [if_pos c] at b1
      exact ⟨a1, b1, fun q => absurd q (by decide), fun _ => ⟨b2, b3 c⟩, fun q => absurd q (by decide)⟩
    · rw [if_neg (fun q => c q.2.2), z]
      rw [if_neg c] at b1
      exact ⟨a1, b1, fun q => absurd q (by decide), fun q => absurd q (by decide), fun q => absurd q (by decide)⟩
  · obtain ⟨b1, b2⟩ := a2 z
    rw [if_neg (fun q => by omega), z]
    exact ⟨a1, b1, fun _ => b2, fun q => absurd q (by decide), fun q => absurd q (by decide)⟩
end jCommon
