/-! the linker: names and places are kept for questions, both sides *-/
set_option maxRecDepth 100000
section jLkp
variable {s t u w s0 t0 s' t' : jS} {a b k m n o p q v l x y c f g j A H C S X : Int} {O : Int → Int → Int → Int → Int} {d e z : Int → Int → Int} {i i' : Int → Int → Int → Int} {G B : Int → Int} {QQ : jS × Bool × Int → jS × Int → Prop}
/-- what was told, as far as n -/
def kpG (C H : Int) (s t : jS) (n : Int) : Prop := ∀ g, 0 ≤ g → g < n → (jf s 1000 (C + 4275 + 39) g = jf t 1000 (H + 206) g ∧ 1 ≤ jf t 1000 (H + 206) g ∧ jf t 1000 (H + 206) g ≤ 16) ∧ (∀ i, 0 ≤ i → i < jf t 1000 (H + 206) g → jf s 1001 (C + 4275 + 38) (16 * g + i) = jf t 1000 (H + 207) (16 * g + i) ∧ 33 ≤ jf t 1000 (H + 207) (16 * g + i) ∧ jf t 1000 (H + 207) (16 * g + i) ≤ 126) ∧ jf s 1000 (C + 4275 + 40) g = jf t 1000 (H + 208) g
def kpR (C H : Int) (s t : jS) : Prop := ∃ n, jf s 39 (C + 4275) 45 = n ∧ jf t 41 H 109 = n ∧ 0 ≤ n ∧ n ≤ 600 ∧ kpG C H s t n
def cKW (C : Int) (s u : jS) : Prop := jSm s u ∧ ∀ c a k, ¬ lkKp C c a k → jf u c a k = jf s c a k
theorem cKW.rfl : cKW C s s := ⟨jSm.rfl, fun _ _ _ _ => Eq.refl _⟩
theorem cKW.trans (h : cKW C s u) (g : cKW C u w) : cKW C s w := ⟨h.1.trans g.1, fun c a k q => (g.2 c a k q).trans (h.2 c a k q)⟩
theorem cKW.jp (h : cKW C s u) (q : lkKp C c a k) : cKW C s (jp u c a k v) := ⟨h.1.jp, fun c' a' k' z => by rw [jf_neg (by rintro ⟨rfl, rfl, rfl⟩; exact z q)]; exact h.2 c' a' k' z⟩
theorem cKW.zw (h : cKW C s u) : cZW C s u := ⟨h.1, fun c a k _ q => h.2 c a k fun z => q (.inr z)⟩
abbrev tkK (H c a k : Int) : Prop := H + 206 ≤ a ∧ a ≤ H + 208 ∨ c = 41 ∧ a = H ∧ k = 109
def tKW (H : Int) (t u : jS) : Prop := jSm t u ∧ ∀ c a k, ¬ tkK H c a k → jf u c a k = jf t c a k
theorem tKW.rfl : tKW H t t := ⟨jSm.rfl, fun _ _ _ _ => Eq.refl _⟩
theorem tKW.trans (h : tKW H t u) (g : tKW H u w) : tKW H t w := ⟨h.1.trans g.1, fun c a k q => (g.2 c a k q).trans (h.2 c a k q)⟩
theorem tKW.jp (h : tKW H t u) (q : tkK H c a k) : tKW H t (jp u c a k v) := ⟨h.1.jp, fun c' a' k' z => by rw [jf_neg (by rintro ⟨rfl, rfl, rfl⟩; exact z q)]; exact h.2 c' a' k' z⟩
theorem tKW.zw (h : tKW H t u) : tZW H t u := ⟨h.1, fun c a k _ q => h.2 c a k (by omega)⟩
/-- a global's row -/
theorem x_keepG (h : LZD C H S O s t e d z G) (hK : ∀ a, C ≤ a → a < C + 15464 → ¬ (70 ≤ jK s a ∧ jK s a ≤ 77)) (g0 : 0 ≤ g) (g1 : g < e 0 0) (r45 : jf s 39 (C + 4275) 20 = e 0 0) (r81 : jf t 41 H 81 = e 0 0) : ∃ u w, b_X35_keep_10 s (C + 4275) g = some (.inl (u, [C + 4275, g + 1])) ∧ b_X37_keepGlobals_10 t H g = some (.inl (w, [H, g + 1])) ∧ cKW C s u ∧ tKW H t w ∧ (∀ c a k, ¬ (c = 1000 ∧ (a = C + 4275 + 39 ∨ a = C + 4275 + 40) ∧ k = g) → ¬ (c = 1001 ∧ a = C + 4275 + 38 ∧ 16 * g ≤ k ∧ k < 16 * g + 16) → jf u c a k = jf s c a k) ∧ (∀ c a k, ¬ (c = 1000 ∧ (a = H + 206 ∨ a = H + 208) ∧ k = g) → ¬ (c = 1000 ∧ a = H + 207 ∧ 16 * g ≤ k ∧ k < 16 * g + 16) → jf w c a k = jf t c a k) ∧ (jf u 1000 (C + 4275 + 39) g = jf w 1000 (H + 206) g ∧ 1 ≤ jf w 1000 (H + 206) g ∧ jf w 1000 (H + 206) g ≤ 16) ∧ (∀ i, 0 ≤ i → i < jf w 1000 (H + 206) g → jf u 1001 (C + 4275 + 38) (16 * g + i) = jf w 1000 (H + 207) (16 * g + i) ∧ 33 ≤ jf w 1000 (H + 207) (16 * g + i) ∧ jf w 1000 (H + 207) (16 * g + i) ≤ 126) ∧ jf u 1000 (C + 4275 + 40) g = jf w 1000 (H + 208) g := by
  obtain ⟨hk, hgc, hgt, hv⟩ := h.2.2.2.2.2.1
  have e6 := hv.1.2.1
  obtain ⟨⟨a15, a16⟩, -⟩ := hgc.2.2 g g0 g1
  obtain ⟨b2, -⟩ := hgt.2.2 g g0 g1
  obtain ⟨⟨⟨hX, -⟩, -⟩, -⟩ := hv.2.1 g g0 g1
  obtain ⟨X, eX⟩ : ∃ X, X = e 2 g := ⟨_, rfl⟩
  rw [← eX] at a15 a16 b2 hX
  obtain ⟨y1, ⟨-, -, -, -, -, ⟨y2, y3⟩⟩, ⟨y4, y5, y6, y7⟩, ⟨-, -, -, -, -, -, -, -, v5, ⟨-, v6, v7⟩, -⟩, ⟨-, -, -, -, u5, u6⟩⟩ := hk.sym hX
  obtain ⟨z1, z2, z3, z4, z5, z6⟩ := T37 y7
  obtain ⟨Y, eY⟩ : ∃ Y, Y = syA C X + 1 := ⟨_, rfl⟩
  have hX0 := hX.1
  have lo : C + 4316 < Y := by rw [eY]; unfold syA fAt; omega
  rw [← eY] at y2 y3 y6 z1 z2 z3 z4 z5 z6
  obtain ⟨N, eN⟩ : ∃ N, N = sy O X 5 := ⟨_, rfl⟩
  rw [← eN] at y2 y3 v5 v6 v7 u5 u6
  -- the component
  obtain ⟨s1, E1⟩ : ∃ s1, s1 = jp s 1000 (C + 4275 + 39) g N := ⟨_, rfl⟩
  obtain ⟨f1, p1, -⟩ := jpF E1
  have k1 : cKW C s s1 := by rw [E1]; exact cKW.rfl.jp (by omega)
  have m1 : jSm s s1 := k1.1
  obtain ⟨s2, e2, j1, j2, j3⟩ := loopTo (C := jc4 b_X35_keep_50) (fun i w => cKW C s1 w ∧ (∀ c a k, ¬ (c = 1001 ∧ a = C + 4275 + 38 ∧ 16 * g ≤ k ∧ k < 16 * g + 16) → jf w c a k = jf s1 c a k) ∧ ∀ i', 0 ≤ i' → i' < i → jf w 1001 (C + 4275 + 38) (16 * g + i') = sy O X (6 + i')) (fun i => [C + 4275, g, Y, i]) 0 N (by omega) (s := s1) (F := fun w => u_X35_keep_81 w (C + 4275) g) ⟨.rfl, fun _ _ _ _ => rfl, fun i i0 i1 => by omega⟩ (fun i w i0 i1 ⟨j1, j2, j3⟩ => by
    have vi := v7 i i0 i1
    have r1 : jf w 21 Y 1 = N := by rw [j2 _ _ _ (by omega), f1 _ _ _ (by omega)]; exact y2
    have r0 : jf w 21 Y 0 = Y + 1 := by rw [j2 _ _ _ (by omega), f1 _ _ _ (by omega)]; exact z3
    have rb : jf w 1001 (Y + 1) i = sy O X (6 + i) := by rw [j2 _ _ _ (by omega), f1 _ _ _ (by omega)]; exact y3 i i0 i1
    have mw := m1.trans j1.1
    have rl : jld w 1001 (Y + 1) i = some (sy O X (6 + i)) := by
      unfold jld
      rw [if_pos ⟨z4, by rw [mw.1]; exact z5, i0, by rw [mw.2.1, z6]; omega⟩, rb]
    refine ⟨jp w 1001 (C + 4275 + 38) (16 * g + i) (sy O X (6 + i)), ?_, j1.jp (by omega), fun c a k q => by rw [jf_neg (by omega)]; exact j2 c a k q, fun i' i0' i1' => ?_⟩
    · show b_X35_keep_50 w (C + 4275) g Y i = _
      unfold b_X35_keep_50
      rw [jrd_in z1 (by rw [mw.1]; exact z2), Option.bind_some, r1, if_pos i1, jrd_in z1 (by rw [mw.1]; exact z2), Option.bind_some, r0, rl, Option.bind_some, W32_in (z := 16 * g) (by omega) (by omega), W32_in (z := 16 * g + i) (by omega) (by omega), jst_in (by omega) (by omega), Option.bind_some, W32_in (z := i + 1) (by omega) (by omega), show W8 (sy O X (6 + i)) = sy O X (6 + i) by rw [W8_sb]; unfold sb; split <;> omega]
    · by_cases c : i' = i
      · rw [c, jf_pos ⟨rfl, rfl, rfl⟩]
      · rw [jf_neg (by omega)]; exact j3 i' i0' (by omega)) (fun w ⟨j1, j2, _⟩ => by
    have r1 : jf w 21 Y 1 = N := by rw [j2 _ _ _ (by omega), f1 _ _ _ (by omega)]; exact y2
    have mw := m1.trans j1.1
    show b_X35_keep_50 w (C + 4275) g Y N = _
    unfold b_X35_keep_50
    rw [jrd_in z1 (by rw [mw.1]; exact z2), Option.bind_some, r1, if_neg (Int.lt_irrefl _)])
  -- the twin
  obtain ⟨t1, E2⟩ : ∃ t1, t1 = jp t 1000 (H + 206) g N := ⟨_, rfl⟩
  obtain ⟨f2, p2, -⟩ := jpF E2
  have k2 : tKW H t t1 := by rw [E2]; exact tKW.rfl.jp (by omega)
  obtain ⟨t2, e3, l1, l2, l3⟩ := loopTo (C := jc4 b_X37_keepGlobals_39) (fun i w => tKW H t1 w ∧ (∀ c a k, ¬ (c = 1000 ∧ a = H + 207 ∧ 16 * g ≤ k ∧ k < 16 * g + 16) → jf w c a k = jf t1 c a k) ∧ ∀ i', 0 ≤ i' → i' < i → jf w 1000 (H + 207) (16 * g + i') = jf t 1000 (H + 182) (16 * X + i')) (fun i => [H, g, X, i]) 0 16 (by decide) (s := t1) (F := fun w => u_X37_keepGlobals_73 w H g) ⟨.rfl, fun _ _ _ _ => rfl, fun i i0 i1 => by omega⟩ (fun i w i0 i1 ⟨j1, j2, j3⟩ => by
    have rb : jf w 1000 (H + 182) (16 * X + i) = jf t 1000 (H + 182) (16 * X + i) := by rw [j2 _ _ _ (by omega), f2 _ _ _ (by omega)]
    refine ⟨jp w 1000 (H + 207) (16 * g + i) (jf t 1000 (H + 182) (16 * X + i)), ?_, j1.jp (by omega), fun c a k q => by rw [jf_neg (by omega)]; exact j2 c a k q, fun i' i0' i1' => ?_⟩
    · show b_X37_keepGlobals_39 w H g X i = _
      unfold b_X37_keepGlobals_39
      rw [if_pos i1, W32_in (z := 16 * X) (by omega) (by omega), W32_in (z := 16 * X + i) (by omega) (by omega), jlt_in (by omega) (by omega), Option.bind_some, rb, W32_in (z := 16 * g) (by omega) (by omega), W32_in (z := 16 * g + i) (by omega) (by omega), jst_in (by omega) (by omega), Option.bind_some, W32_in (z := i + 1) (by omega) (by omega)]
    · by_cases c : i' = i
      · rw [c, jf_pos ⟨rfl, rfl, rfl⟩]
      · rw [jf_neg (by omega)]; exact j3 i' i0' (by omega)) (fun w _ => by
    show b_X37_keepGlobals_39 w H g X 16 = _
    unfold b_X37_keepGlobals_39
    rw [if_neg (by decide)])
  -- places
  have K12 := k1.trans j1
  have L12 := k2.trans l1
  obtain ⟨r, q1, q2, q3, -⟩ := x_globP (h.zw hK K12.zw L12.zw) g0 g1
  obtain ⟨s3, E3⟩ : ∃ s3, s3 = jp s2 1000 (C + 4275 + 40) g r := ⟨_, rfl⟩
  obtain ⟨f3, p3, -⟩ := jpF E3
  obtain ⟨t3, E4⟩ : ∃ t3, t3 = jp t2 1000 (H + 208) g r := ⟨_, rfl⟩
  obtain ⟨f4, p4, -⟩ := jpF E4
  have eN2 : jf t3 1000 (H + 206) g = N := by rw [f4 _ _ _ (by omega), l2 _ _ _ (by omega)]; exact p2
  refine ⟨s3, t3, ?_, ?_, by rw [E3]; exact K12.jp (by omega), by rw [E4]; exact L12.jp (by omega), fun c a k q q' => by rw [f3 _ _ _ (by omega), j2 _ _ _ (by omega), f1 _ _ _ (by omega)], fun c a k q q' => by rw [f4 _ _ _ (by omega), l2 _ _ _ (by omega), f2 _ _ _ (by omega)], ⟨?_, by rw [eN2]; exact v5, by rw [eN2]; exact v6⟩, fun i i0 i1 => ?_, by rw [p3, p4]⟩
  · unfold b_X35_keep_10
    rw [r45, if_pos g1, jlt_in g0 (by omega), Option.bind_some, a15, jlt_in g0 (by omega), Option.bind_some, a16, y1, Option.bind_some, jrd_in y4 y5, Option.bind_some, show jf s 20 (syA C X) 0 = Y by rw [← y6], jrd_in z1 z2, Option.bind_some, y2, jst_in g0 (by omega), Option.bind_some, ← E1, eu_X35_keep_50]; unfold du_X35_keep_50
    rw [e2, eu_X35_keep_81]; unfold du_X35_keep_81
    rw [q1, Option.bind_some]
    dsimp only
    rw [l2i_in q3.1 q3.2, jst_in g0 (by omega), Option.bind_some, ← E3, W32_in (by omega) (by omega)]
  · unfold b_X37_keepGlobals_10
    rw [r81, if_pos g1, jlt_in g0 (by omega), Option.bind_some, b2, jlt_in (by omega) (by omega), Option.bind_some, u5, jst_in g0 (by omega), Option.bind_some, ← E2, eu_X37_keepGlobals_39]; unfold du_X37_keepGlobals_39
    rw [e3, eu_X37_keepGlobals_73]; unfold du_X37_keepGlobals_73
    rw [q2, Option.bind_some, jst_in g0 (by omega), Option.bind_some, ← E4, W32_in (by omega) (by omega)]
  · rw [eN2, f3 _ _ _ (by omega), j2 _ _ _ (by omega)]; exact p1
  · rw [eN2] at i1
    have vi := v7 i i0 i1
    have ec : jf s3 1001 (C + 4275 + 38) (16 * g + i) = sy O X (6 + i) := by rw [f3 _ _ _ (by omega)]; exact j3 i i0 i1
    have et : jf t3 1000 (H + 207) (16 * g + i) = sy O X (6 + i) := by rw [f4 _ _ _ (by omega), l3 i i0 (by omega)]; exact u6 i i0 i1
    rw [ec, et]; exact ⟨rfl, vi.1, vi.2⟩
end jLkp
