/-! assembling begins: all is cleared, both sides *-/
set_option maxRecDepth 100000
section jClear
variable {s t u w : jS} {α : Type} {a c k v x y z n A H b lo R R' : Int} {NL : List (List Int)} {I : pI} {OL : List pvO} {SL : List pvS}
abbrev isPt (w u : jS) (c a k v : Int) : Prop := w = jp u c a k v
theorem jSm.wr (h : jSm t u) (e : isPt w u c a k v) : jSm t w := by rw [e]; exact h.jp
theorem jls_e (s : jS) (f : jS → Option α) : jls s f = f s := rfl
theorem fill1 {L : jS → Int → Option α} {E : jS → Option α} (st : ∀ u i, 0 ≤ i → i < n → L u i = L (jp u 1000 R i v) (i + 1)) (en : ∀ u, L u n = E u) : ∀ (m : Nat) (u : jS) (i : Int), 0 ≤ i → i + m = n → ∃ w, L u i = E w ∧ (∀ k, i ≤ k → k < n → jf w 1000 R k = v) ∧ (∀ c a k, ¬ (c = 1000 ∧ a = R ∧ i ≤ k) → jf w c a k = jf u c a k) ∧ jSm u w
  | 0, u, i, i0, hi => by
    have : i = n := by omega
    subst this
    exact ⟨u, en u, fun k k0 k1 => by omega, fun _ _ _ _ => rfl, jSm.rfl⟩
  | m + 1, u, i, i0, hi => by
    obtain ⟨w, e1, e2, e3, e4⟩ := fill1 st en m (jp u 1000 R i v) (i + 1) (by omega) (by omega)
    refine ⟨w, by rw [st u i i0 (by omega)]; exact e1, fun k k0 k1 => ?_, fun c a k z => ?_, jSm.trans jSm.rfl.jp e4⟩
    · by_cases ck : k = i
      · rw [e3 _ _ _ (by omega), ck, jf_jp, if_pos ⟨rfl, rfl, rfl⟩]
      · exact e2 k (by omega) k1
    · rw [e3 _ _ _ (by omega), jf_neg (by omega)]
theorem fill2 {L : jS → Int → Option α} {E : jS → Option α} {v2 : Int → Int} (hR : ¬ R = R') (st : ∀ u i, 0 ≤ i → i < n → L u i = L (jp (jp u 1000 R i v) 1000 R' i (v2 i)) (i + 1)) (en : ∀ u, L u n = E u) : ∀ (m : Nat) (u : jS) (i : Int), 0 ≤ i → i + m = n → ∃ w, L u i = E w ∧ (∀ k, i ≤ k → k < n → jf w 1000 R k = v ∧ jf w 1000 R' k = v2 k) ∧ (∀ c a k, ¬ (c = 1000 ∧ (a = R ∨ a = R') ∧ i ≤ k) → jf w c a k = jf u c a k) ∧ jSm u w
  | 0, u, i, i0, hi => by
    have : i = n := by omega
    subst this
    exact ⟨u, en u, fun k k0 k1 => by omega, fun _ _ _ _ => rfl, jSm.rfl⟩
  | m + 1, u, i, i0, hi => by
    obtain ⟨w, e1, e2, e3, e4⟩ := fill2 hR st en m (jp (jp u 1000 R i v) 1000 R' i (v2 i)) (i + 1) (by omega) (by omega)
    refine ⟨w, by rw [st u i i0 (by omega)]; exact e1, fun k k0 k1 => ?_, fun c a k z => ?_, jSm.trans jSm.rfl.jp.jp e4⟩
    · by_cases ck : k = i
      · rw [e3 _ _ _ (by omega), e3 _ _ _ (by omega), ck, jf_neg (by omega), jf_jp, if_pos ⟨rfl, rfl, rfl⟩, jf_jp, if_pos ⟨rfl, rfl, rfl⟩]; exact ⟨rfl, rfl⟩
      · exact e2 k (by omega) k1
    · rw [e3 _ _ _ (by omega), jf_neg (by omega), jf_neg (by omega)]
/-- what the component's clearing leaves *-/
def cClr (s u : jS) (A : Int) : Prop := (∀ k, 0 ≤ k → k < 150 → jf u 1000 (A + 2) k = -1) ∧ (∀ k, 0 ≤ k → k < 4 → jf u 1000 (A + 7) k = 0 ∧ jf u 1000 (A + 8) k = if k = 0 then 2 else 0) ∧ (∀ k, 0 ≤ k → k < 10 → jf u 1000 (A + 15) k = -1 ∧ jf u 1000 (A + 16) k = -1) ∧ (∀ k, 25 ≤ k → k ≤ 30 → jf u 37 A k = 0) ∧ (jf u 37 A 39 = 1 ∧ jf u 37 A 40 = 1) ∧ (∀ c a k, ¬ (c = 1000 ∧ (a = A + 2 ∨ a = A + 7 ∨ a = A + 8 ∨ a = A + 15 ∨ a = A + 16)) → ¬ (c = 37 ∧ a = A ∧ (25 ≤ k ∧ k ≤ 30 ∨ k = 39 ∨ k = 40)) → jf u c a k = jf s c a k) ∧ jSm s u
theorem cClr.fa (h : cClr s u A) : cFa A s u 0 0 := by
  obtain ⟨-, -, -, -, -, h6, m1, m2, m3, m4, m5, m6, m7⟩ := h
  exact ⟨⟨by omega, by omega, by omega, m5, m6, m7⟩, fun a _ => ⟨by rw [m1], by rw [m2]⟩, fun c a k _ z => h6 c a k (by omega) (by omega)⟩
theorem c_clearA : ∃ u, m_X33_clear s A = some (u, 0) ∧ cClr s u A := by
  rw [em_X33_clear]; unfold dm_X33_clear
  obtain ⟨u1, e1, a1, b1, c1⟩ := fill1 (n := 150) (R := A + 2) (v := -1) (L := fun u i => u_X33_clear_2 u A i) (E := fun u => u_X33_clear_24 u A) (fun u i i0 i1 => by
    try dsimp only
    rw [eu_X33_clear_2]; unfold du_X33_clear_2
    refine jlpW_l ?_
    show b_X33_clear_2 u A i = _
    unfold b_X33_clear_2
    rw [if_pos i1, jst_in i0 i1, Option.bind_some, W32_in (by omega) (by omega)]) (fun u => by
    try dsimp only
    rw [eu_X33_clear_2]; unfold du_X33_clear_2
    refine jlpW_r (r := u_X33_clear_24 u A) ?_
    show b_X33_clear_2 u A 150 = _
    unfold b_X33_clear_2
    rw [if_neg (by decide)]) 150 s 0 (by decide) (by decide)
  try dsimp only at e1
  rw [e1, eu_X33_clear_24]; unfold du_X33_clear_24
  obtain ⟨u2, e2, a2, b2, c2⟩ := fill2 (n := 4) (R := A + 7) (R' := A + 8) (v := 0) (v2 := fun k => if k = 0 then 2 else 0) (by omega) (L := fun u i => u_X33_clear_26 u A i) (E := fun u => u_X33_clear_59 u A) (fun u i i0 i1 => by
    try dsimp only
    rw [eu_X33_clear_26]; unfold du_X33_clear_26
    refine jlpW_l ?_
    show b_X33_clear_26 u A i = _
    unfold b_X33_clear_26
    rw [if_pos i1, jst_in i0 i1, Option.bind_some, eu_X33_clear_52]; unfold du_X33_clear_52
    rw [W32_in (by omega) (by omega)]
    split
    · rw [jst_in i0 i1, Option.bind_some]
    · rw [jst_in i0 i1, Option.bind_some]) (fun u => by
    try dsimp only
    rw [eu_X33_clear_26]; unfold du_X33_clear_26
    refine jlpW_r (r := u_X33_clear_59 u A) ?_
    show b_X33_clear_26 u A 4 = _
    unfold b_X33_clear_26
    rw [if_neg (by decide)]) 4 u1 0 (by decide) (by decide)
  try dsimp only at e2
  rw [e2, eu_X33_clear_59]; unfold du_X33_clear_59
  obtain ⟨u3, e3, a3, b3, c3⟩ := fill2 (n := 10) (R := A + 15) (R' := A + 16) (v := -1) (v2 := fun _ => -1) (by omega) (L := fun u i => u_X33_clear_61 u A i) (E := fun u => u_X33_clear_87 u A) (fun u i i0 i1 => by
    try dsimp only
    rw [eu_X33_clear_61]; unfold du_X33_clear_61
    refine jlpW_l ?_
    show b_X33_clear_61 u A i = _
    unfold b_X33_clear_61
    rw [if_pos i1, jst_in i0 i1, Option.bind_some, jst_in i0 i1, Option.bind_some, W32_in (by omega) (by omega)]) (fun u => by
    try dsimp only
    rw [eu_X33_clear_61]; unfold du_X33_clear_61
    refine jlpW_r (r := u_X33_clear_87 u A) ?_
    show b_X33_clear_61 u A 10 = _
    unfold b_X33_clear_61
    rw [if_neg (by decide)]) 10 u2 0 (by decide) (by decide)
  try dsimp only at e3
  rw [e3, eu_X33_clear_87]; unfold du_X33_clear_87
  simp only [jls, jzb_in (.inr rfl : (1 : Int) = 0 ∨ (1 : Int) = 1), Option.bind_some]
  obtain ⟨v1, E1⟩ : ∃ v1, v1 = jp u3 37 A 25 0 := ⟨_, rfl⟩
  obtain ⟨f1, p1, -⟩ := jpF E1
  rw [← E1]
  obtain ⟨v2, E2⟩ : ∃ v2, v2 = jp v1 37 A 26 0 := ⟨_, rfl⟩
  obtain ⟨f2, p2, -⟩ := jpF E2
  rw [← E2]
  obtain ⟨v3, E3⟩ : ∃ v3, v3 = jp v2 37 A 27 0 := ⟨_, rfl⟩
  obtain ⟨f3, p3, -⟩ := jpF E3
  rw [← E3]
  obtain ⟨v4, E4⟩ : ∃ v4, v4 = jp v3 37 A 28 0 := ⟨_, rfl⟩
  obtain ⟨f4, p4, -⟩ := jpF E4
  rw [← E4]
  obtain ⟨v5, E5⟩ : ∃ v5, v5 = jp v4 37 A 29 0 := ⟨_, rfl⟩
  obtain ⟨f5, p5, -⟩ := jpF E5
  rw [← E5]
  obtain ⟨v6, E6⟩ : ∃ v6, v6 = jp v5 37 A 30 0 := ⟨_, rfl⟩
  obtain ⟨f6, p6, -⟩ := jpF E6
  rw [← E6]
  obtain ⟨v7, E7⟩ : ∃ v7, v7 = jp v6 37 A 39 1 := ⟨_, rfl⟩
  obtain ⟨f7, p7, -⟩ := jpF E7
  rw [← E7]
  obtain ⟨v8, E8⟩ : ∃ v8, v8 = jp v7 37 A 40 1 := ⟨_, rfl⟩
  obtain ⟨f8, p8, -⟩ := jpF E8
  rw [← E8]
  have fr : ∀ c a k, ¬ (c = 37 ∧ a = A ∧ (25 ≤ k ∧ k ≤ 30 ∨ k = 39 ∨ k = 40)) → jf v8 c a k = jf u3 c a k := fun c a k z => by rw [f8 _ _ _ (by omega), f7 _ _ _ (by omega), f6 _ _ _ (by omega), f5 _ _ _ (by omega), f4 _ _ _ (by omega), f3 _ _ _ (by omega), f2 _ _ _ (by omega), f1 _ _ _ (by omega)]
  have sm : jSm u3 v8 := (((((((jSm.rfl.wr E1).wr E2).wr E3).wr E4).wr E5).wr E6).wr E7).wr E8
  refine ⟨v8, rfl, fun k k0 k1 => ?_, fun k k0 k1 => ?_, fun k k0 k1 => ?_, fun k k0 k1 => ?_, ⟨?_, p8⟩, fun c a k z1 z2 => ?_, jSm.trans (jSm.trans (jSm.trans c1 c2) c3) sm⟩
  · rw [fr _ _ _ (by omega), b3 _ _ _ (by omega), b2 _ _ _ (by omega)]; exact a1 k k0 k1
  · rw [fr _ _ _ (by omega), fr _ _ _ (by omega), b3 _ _ _ (by omega), b3 _ _ _ (by omega)]; exact a2 k k0 k1
  · rw [fr _ _ _ (by omega), fr _ _ _ (by omega)]; exact a3 k k0 k1
  · have : k = 25 ∨ k = 26 ∨ k = 27 ∨ k = 28 ∨ k = 29 ∨ k = 30 := by omega
    rw [f8 _ _ _ (by omega), f7 _ _ _ (by omega)]
    rcases this with rfl | rfl | rfl | rfl | rfl | rfl
    · rw [f6 _ _ _ (by omega), f5 _ _ _ (by omega), f4 _ _ _ (by omega), f3 _ _ _ (by omega), f2 _ _ _ (by omega), p1]
    · rw [f6 _ _ _ (by omega), f5 _ _ _ (by omega), f4 _ _ _ (by omega), f3 _ _ _ (by omega), p2]
    · rw [f6 _ _ _ (by omega), f5 _ _ _ (by omega), f4 _ _ _ (by omega), p3]
    · rw [f6 _ _ _ (by omega), f5 _ _ _ (by omega), p4]
    · rw [f6 _ _ _ (by omega), p5]
    · exact p6
  · rw [f8 _ _ _ (by omega), p7]
  · rw [fr _ _ _ z2, b3 _ _ _ (by omega), b2 _ _ _ (by omega), b1 _ _ _ (by omega)]
/-- what the twin's clearing leaves *-/
def yClr (t w : jS) (H : Int) : Prop := (∀ k, 0 ≤ k → k < 150 → jf w 1000 (H + 148) k = -1) ∧ (∀ k, 0 ≤ k → k < 4 → jf w 1000 (H + 153) k = 0 ∧ jf w 1000 (H + 154) k = if k = 0 then 4 else 1) ∧ (∀ k, 0 ≤ k → k < 10 → jf w 1000 (H + 149) k = -1 ∧ jf w 1000 (H + 150) k = -1) ∧ (∀ k, k = 12 ∨ k = 19 ∨ k = 26 ∨ k = 28 ∨ k = 34 ∨ k = 37 ∨ k = 42 → jf w 41 H k = 0) ∧ (jf w 41 H 35 = 1 ∧ jf w 41 H 36 = 1) ∧ (∀ c a k, ¬ (c = 1000 ∧ (H + 148 ≤ a ∧ a ≤ H + 150 ∨ a = H + 153 ∨ a = H + 154)) → ¬ (c = 41 ∧ a = H ∧ (k = 12 ∨ k = 19 ∨ k = 26 ∨ k = 28 ∨ 34 ≤ k ∧ k ≤ 37 ∨ k = 42 ∨ k = 43)) → jf w c a k = jf t c a k) ∧ jSm t w
theorem yClr.f (h : yClr t w H) : tF H t w := ⟨h.2.2.2.2.2.2, fun c a k z1 z2 z3 z4 => h.2.2.2.2.2.1 c a k (by omega) (by omega)⟩
theorem y_b12 (t : jS) (H : Int) : ∃ w, u_X37_beginUnit_12 t H 0 = u_X37_beginUnit_32 w H ∧ (∀ k, 0 ≤ k → k < 150 → jf w 1000 (H + 148) k = -1) ∧ (∀ c a k, ¬ (c = 1000 ∧ a = H + 148 ∧ 0 ≤ k) → jf w c a k = jf t c a k) ∧ jSm t w :=
  fill1 (n := 150) (R := H + 148) (v := -1) (L := fun u i => u_X37_beginUnit_12 u H i) (E := fun u => u_X37_beginUnit_32 u H) (fun u i i0 i1 => by
    try dsimp only
    rw [eu_X37_beginUnit_12]; unfold du_X37_beginUnit_12
    refine jlpW_l ?_
    show b_X37_beginUnit_12 u H i = _
    unfold b_X37_beginUnit_12
    rw [if_pos i1, jst_in i0 i1, Option.bind_some, W32_in (by omega) (by omega)]) (fun u => by
    try dsimp only
    rw [eu_X37_beginUnit_12]; unfold du_X37_beginUnit_12
    refine jlpW_r (r := u_X37_beginUnit_32 u H) ?_
    show b_X37_beginUnit_12 u H 150 = _
    unfold b_X37_beginUnit_12
    rw [if_neg (by decide)]) 150 t 0 (by decide) (by decide)
theorem y_b34 (t : jS) (H : Int) : ∃ w, u_X37_beginUnit_34 t H 0 = u_X37_beginUnit_60 w H ∧ (∀ k, 0 ≤ k → k < 10 → jf w 1000 (H + 149) k = -1 ∧ jf w 1000 (H + 150) k = -1) ∧ (∀ c a k, ¬ (c = 1000 ∧ (a = H + 149 ∨ a = H + 150) ∧ 0 ≤ k) → jf w c a k = jf t c a k) ∧ jSm t w :=
  fill2 (n := 10) (R := H + 149) (R' := H + 150) (v := -1) (v2 := fun _ => -1) (by omega) (L := fun u i => u_X37_beginUnit_34 u H i) (E := fun u => u_X37_beginUnit_60 u H) (fun u i i0 i1 => by
    try dsimp only
    rw [eu_X37_beginUnit_34]; unfold du_X37_beginUnit_34
    refine jlpW_l ?_
    show b_X37_beginUnit_34 u H i = _
    unfold b_X37_beginUnit_34
    rw [if_pos i1, jst_in i0 i1, Option.bind_some, jst_in i0 i1, Option.bind_some, W32_in (by omega) (by omega)]) (fun u => by
    try dsimp only
    rw [eu_X37_beginUnit_34]; unfold du_X37_beginUnit_34
    refine jlpW_r (r := u_X37_beginUnit_60 u H) ?_
    show b_X37_beginUnit_34 u H 10 = _
    unfold b_X37_beginUnit_34
    rw [if_neg (by decide)]) 10 t 0 (by decide) (by decide)
theorem y_b62 (t : jS) (H : Int) : ∃ w, u_X37_beginUnit_62 t H 0 = u_X37_beginUnit_95 w H ∧ (∀ k, 0 ≤ k → k < 4 → jf w 1000 (H + 153) k = 0 ∧ jf w 1000 (H + 154) k = if k = 0 then 4 else 1) ∧ (∀ c a k, ¬ (c = 1000 ∧ (a = H + 153 ∨ a = H + 154) ∧ 0 ≤ k) → jf w c a k = jf t c a k) ∧ jSm t w :=
  fill2 (n := 4) (R := H + 153) (R' := H + 154) (v := 0) (v2 := fun k => if k = 0 then 4 else 1) (by omega) (L := fun u i => u_X37_beginUnit_62 u H i) (E := fun u => u_X37_beginUnit_95 u H) (fun u i i0 i1 => by
    try dsimp only
    rw [eu_X37_beginUnit_62]; unfold du_X37_beginUnit_62
    refine jlpW_l ?_
    show b_X37_beginUnit_62 u H i = _
    unfold b_X37_beginUnit_62
    rw [if_pos i1, jst_in i0 i1, Option.bind_some, eu_X37_beginUnit_88]; unfold du_X37_beginUnit_88
    rw [W32_in (by omega) (by omega)]
    split
    · rw [jst_in i0 i1, Option.bind_some]
    · rw [jst_in i0 i1, Option.bind_some]) (fun u => by
    try dsimp only
    rw [eu_X37_beginUnit_62]; unfold du_X37_beginUnit_62
    refine jlpW_r (r := u_X37_beginUnit_95 u H) ?_
    show b_X37_beginUnit_62 u H 4 = _
    unfold b_X37_beginUnit_62
    rw [if_neg (by decide)]) 4 t 0 (by decide) (by decide)
theorem y_begin : ∃ w, m_X37_beginUnit t H = some (w, 0) ∧ yClr t w H := by
  rw [em_X37_beginUnit]; unfold dm_X37_beginUnit
  simp only [jls]
  obtain ⟨v1, E1⟩ : ∃ v1, v1 = jp t 41 H 12 0 := ⟨_, rfl⟩
  obtain ⟨f1, p1, -⟩ := jpF E1
  rw [← E1]
  obtain ⟨v2, E2⟩ : ∃ v2, v2 = jp v1 41 H 19 0 := ⟨_, rfl⟩
  obtain ⟨f2, p2, -⟩ := jpF E2
  rw [← E2]
  obtain ⟨u1, e1, a1, b1, c1⟩ := y_b12 v2 H
  rw [e1, eu_X37_beginUnit_32]; unfold du_X37_beginUnit_32
  obtain ⟨u3, e3, a3, b3, c3⟩ := y_b34 u1 H
  rw [e3, eu_X37_beginUnit_60]; unfold du_X37_beginUnit_60
  obtain ⟨u2, e2, a2, b2, c2⟩ := y_b62 u3 H
  rw [e2, eu_X37_beginUnit_95]; unfold du_X37_beginUnit_95
  obtain ⟨w1, G1⟩ : ∃ w1, w1 = jp u2 41 H 26 0 := ⟨_, rfl⟩
  obtain ⟨g1, r1, -⟩ := jpF G1
  rw [jls_e, ← G1]
  obtain ⟨w2, G2⟩ : ∃ w2, w2 = jp w1 41 H 28 0 := ⟨_, rfl⟩
  obtain ⟨g2, r2, -⟩ := jpF G2
  rw [jls_e, ← G2]
  obtain ⟨w3, G3⟩ : ∃ w3, w3 = jp w2 41 H 34 0 := ⟨_, rfl⟩
  obtain ⟨g3, r3, -⟩ := jpF G3
  rw [jls_e, ← G3]
  obtain ⟨w4, G4⟩ : ∃ w4, w4 = jp w3 41 H 35 1 := ⟨_, rfl⟩
  obtain ⟨g4, r4, -⟩ := jpF G4
  rw [jzb_in (.inr rfl : (1 : Int) = 0 ∨ (1 : Int) = 1), Option.bind_some, jls_e, ← G4]
  obtain ⟨w5, G5⟩ : ∃ w5, w5 = jp w4 41 H 36 1 := ⟨_, rfl⟩
  obtain ⟨g5, r5, -⟩ := jpF G5
  rw [Option.bind_some, jls_e, ← G5]
  obtain ⟨w6, G6⟩ : ∃ w6, w6 = jp w5 41 H 37 0 := ⟨_, rfl⟩
  obtain ⟨g6, r6, -⟩ := jpF G6
  rw [jls_e, ← G6]
  obtain ⟨w7, G7⟩ : ∃ w7, w7 = jp w6 41 H 42 0 := ⟨_, rfl⟩
  obtain ⟨g7, r7, -⟩ := jpF G7
  rw [jls_e, ← G7]
  obtain ⟨w8, G8⟩ : ∃ w8, w8 = jp w7 41 H 43 (-1) := ⟨_, rfl⟩
  obtain ⟨g8, r8, -⟩ := jpF G8
  rw [jls_e, ← G8]
  have fr : ∀ c a k, ¬ (c = 41 ∧ a = H ∧ (k = 26 ∨ k = 28 ∨ 34 ≤ k ∧ k ≤ 37 ∨ k = 42 ∨ k = 43)) → jf w8 c a k = jf u2 c a k := fun c a k z => by rw [g8 _ _ _ (by omega), g7 _ _ _ (by omega), g6 _ _ _ (by omega), g5 _ _ _ (by omega), g4 _ _ _ (by omega), g3 _ _ _ (by omega), g2 _ _ _ (by omega), g1 _ _ _ (by omega)]
  have fb : ∀ c a k, ¬ (c = 1000) → jf u2 c a k = jf v2 c a k := fun c a k z => by rw [b2 _ _ _ (by omega), b3 _ _ _ (by omega), b1 _ _ _ (by omega)]
  have sm : jSm u2 w8 := (((((((jSm.rfl.wr G1).wr G2).wr G3).wr G4).wr G5).wr G6).wr G7).wr G8
  have sm0 : jSm t v2 := (jSm.rfl.wr E1).wr E2
  refine ⟨w8, rfl, fun k k0 k1 => ?_, fun k k0 k1 => ?_, fun k k0 k1 => ?_, fun k hk => ?_, ⟨?_, ?_⟩, fun c a k z1 z2 => ?_, jSm.trans sm0 (jSm.trans (jSm.trans (jSm.trans c1 c3) c2) sm)⟩
  · rw [fr _ _ _ (by omega), b2 _ _ _ (by omega), b3 _ _ _ (by omega)]; exact a1 k k0 k1
  · rw [fr _ _ _ (by omega), fr _ _ _ (by omega)]; exact a2 k k0 k1
  · rw [fr _ _ _ (by omega), fr _ _ _ (by omega), b2 _ _ _ (by omega), b2 _ _ _ (by omega)]; exact a3 k k0 k1
  · rcases hk with rfl | rfl | rfl | rfl | rfl | rfl | rfl
    · rw [fr _ _ _ (by omega), fb _ _ _ (by omega), f2 _ _ _ (by omega), p1]
    · rw [fr _ _ _ (by omega), fb _ _ _ (by omega), p2]
    · rw [g8 _ _ _ (by omega), g7 _ _ _ (by omega), g6 _ _ _ (by omega), g5 _ _ _ (by omega), g4 _ _ _ (by omega), g3 _ _ _ (by omega), g2 _ _ _ (by omega), r1]
    · rw [g8 _ _ _ (by omega), g7 _ _ _ (by omega), g6 _ _ _ (by omega), g5 _ _ _ (by omega), g4 _ _ _ (by omega), g3 _ _ _ (by omega), r2]
    · rw [g8 _ _ _ (by omega), g7 _ _ _ (by omega), g6 _ _ _ (by omega), g5 _ _ _ (by omega), g4 _ _ _ (by omega), r3]
    · rw [g8 _ _ _ (by omega), g7 _ _ _ (by omega), r6]
    · rw [g8 _ _ _ (by omega), r7]
  · rw [g8 _ _ _ (by omega), g7 _ _ _ (by omega), g6 _ _ _ (by omega), g5 _ _ _ (by omega), r4]
  · rw [g8 _ _ _ (by omega), g7 _ _ _ (by omega), g6 _ _ _ (by omega), r5]
  · rw [fr _ _ _ (by omega), b2 _ _ _ (by omega), b3 _ _ _ (by omega), b1 _ _ _ (by omega), f2 _ _ _ (by omega), f1 _ _ _ (by omega)]
/-- both cleared: nothing is there yet *-/
theorem clr_LI {s1 t1 u' w' : jS} (hC : cCx u A b lo NL I OL SL) (hT : tCx w H NL I OL SL) (hB : jBd u 4 40) (c : cClr s1 u' A) (y : yClr t1 w' H) (fu : ∀ c a k, c = 1000 ∧ (a = A + 2 ∨ a = A + 7 ∨ a = A + 8 ∨ a = A + 15 ∨ a = A + 16) ∨ c = 37 ∧ a = A ∧ (25 ≤ k ∧ k ≤ 30 ∨ k = 39 ∨ k = 40) → jf u c a k = jf u' c a k) (fw : ∀ c a k, c = 1000 ∧ (H + 148 ≤ a ∧ a ≤ H + 150 ∨ a = H + 153 ∨ a = H + 154) ∨ c = 41 ∧ a = H ∧ (k = 12 ∨ k = 19 ∨ k = 26 ∨ k = 28 ∨ 34 ≤ k ∧ k ≤ 37 ∨ k = 42) → jf w c a k = jf w' c a k) (h33 : jf u 37 A 33 = 0) : LI u w A H b lo NL I OL SL 0 := by
  obtain ⟨c1, c2, c3, c4, c5, -⟩ := c
  obtain ⟨y1, y2, y3, y4, y5, -⟩ := y
  have S := fun k (h0 : 25 ≤ k) (h1 : k ≤ 30) => (fu 37 A k (.inr ⟨rfl, rfl, .inl ⟨h0, h1⟩⟩)).trans (c4 k h0 h1)
  have Y := fun k (h : k = 12 ∨ k = 19 ∨ k = 26 ∨ k = 28 ∨ k = 34 ∨ k = 37 ∨ k = 42) => (fw 41 H k (.inr ⟨rfl, rfl, by omega⟩)).trans (y4 k h)
  have n150 := hC.1.2.2.1.2.1
  have y12 := Y 12 (by omega)
  have y34 := Y 34 (by omega)
  refine ⟨hC, hT, hB, ⟨⟨by rw [S 25 (by omega) (by omega), y12], by rw [y12]; omega, by rw [S 26 (by omega) (by omega), Y 19 (by omega)], by rw [Y 19 (by omega), y12]; omega, fun i i0 i1 => by rw [y12] at i1; omega⟩, ⟨fun k k0 k1 => ?_, fun d d0 d1 => ⟨?_, ?_, fun q => ?_⟩⟩, ⟨fun k k0 k1 q => ?_, fun d d0 d1 q => ?_, fun d e d0 d1 e0 e1 q => ?_⟩, ⟨⟨by rw [S 30 (by omega) (by omega), y34], by rw [y34]; omega⟩, fun k k0 k1 => ⟨?_, ?_, ?_, ?_⟩, fun x k x0 x1 k0 k1 => ?_⟩, ⟨⟨by rw [S 28 (by omega) (by omega), Y 28 (by omega)], by rw [Y 28 (by omega)]; omega⟩, fun i i0 i1 => by rw [Y 28 (by omega)] at i1; omega⟩, ⟨⟨by rw [S 27 (by omega) (by omega), Y 26 (by omega)], by rw [Y 26 (by omega)]; omega⟩, fun i i0 i1 => by rw [Y 26 (by omega)] at i1; omega⟩, ⟨⟨by rw [S 29 (by omega) (by omega), Y 37 (by omega)], by rw [Y 37 (by omega)]; omega⟩, fun i i0 i1 => by rw [Y 37 (by omega)] at i1; omega, ⟨?_, ?_⟩, ?_, ?_⟩, Y 42 (by omega)⟩, ⟨Int.le_refl _, by omega, h33⟩, by rw [Y 26 (by omega)]; omega⟩
  · rw [fu _ _ _ (by omega), fw _ _ _ (by omega), c1 k k0 (by omega), y1 k k0 (by omega), y12]; omega
  · rw [fu _ _ _ (by omega), fw _ _ _ (by omega), (c3 d d0 d1).1, (y3 d d0 d1).1, y12]; omega
  · rw [fu _ _ _ (by omega), fw _ _ _ (by omega), (c3 d d0 d1).2, (y3 d d0 d1).2, y12]; omega
  · rw [fw _ _ _ (by omega), (y3 d d0 d1).2] at q; omega
  · rw [fw _ _ _ (by omega), y1 k k0 (by omega)] at q; omega
  · rw [fw _ _ _ (by omega), (y3 d d0 d1).2] at q; omega
  · rw [fw _ _ _ (by omega), (y3 d d0 d1).2] at q; omega
  · rw [fu _ _ _ (by omega), fw _ _ _ (by omega), (c2 k k0 k1).1, (y2 k k0 k1).1]
  · rw [fw _ _ _ (by omega), (y2 k k0 k1).1]; unfold szM; split <;> omega
  · rw [fu _ _ _ (by omega), (c2 k k0 k1).2]; split <;> omega
  · rw [fu _ _ _ (by omega), fw _ _ _ (by omega), (c2 k k0 k1).2, (y2 k k0 k1).2]; split <;> rfl
  · rw [fw _ _ _ (by omega), (y2 x x0 (by omega)).1] at k1; omega
  · rw [fu _ _ _ (by omega), fw _ _ _ (by omega), c5.1, y5.1]
  · rw [fw _ _ _ (by omega), y5.1]; exact .inr rfl
  · rw [fu _ _ _ (by omega), fw _ _ _ (by omega), c5.2, y5.2]
  · rw [fw _ _ _ (by omega), y5.2]; exact .inr rfl
end jClear
