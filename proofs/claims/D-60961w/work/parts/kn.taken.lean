/-! the linker: heads of taken pieces, both sides *-/
set_option maxRecDepth 100000
section jTkh
variable {s t u w r q' : jS} {a b g k m n p v l x y0 c j X f i H C P Q P' Q' S : Int} {O : Int → Int → Int → Int → Int} {o : Int → Int → Int → Int} {d d' e z y y' : Int → Int → Int}
theorem LBR.t6 (h : LBR C H s t d z) (g : tW6 H t u) : LBR C H s u d z := ⟨h.1, h.2.1, h.2.2.1.fr (fun c a k hq => g.2 _ _ _ (by omega)), h.2.2.2.cg fun a k a0 a1 => g.2 _ _ _ (by omega)⟩
theorem LBL.t6 (h : LBL C H S O s t e d y) (g : tW6 H t u) : LBL C H S O s u e d y := ⟨h.1, h.2.1, fun k k0 k1 => by rw [g.2 _ _ _ (by omega)]; exact h.2.2 k k0 k1⟩
/-- all that stays while pieces are laid out -/
def LB0 (C H S : Int) (O : Int → Int → Int → Int → Int) (s t : jS) (e : Int → Int → Int) : Prop := lkB C H S O s t ∧ (gGc C S O s e ∧ gFt H S O t e ∧ gFv S O e) ∧ wrS C H s t ∧ cKdl C s
theorem LB0.bw (h : LB0 C H S O s t e) (g : cBW C s u P Q) (g' : tBW H t w) : LB0 C H S O u w e := by
  obtain ⟨h1, ⟨h2, h3, h4⟩, h5, h6⟩ := h
  have C0 := h1.1
  exact ⟨h1.bw g h6.2 g', ⟨h2.bw g, h3.bw g', h4⟩, h5.bw C0.2 g g', h6.gA C0.1 C0.2 g.gA⟩
theorem LB0.t6 (h : LB0 C H S O s t e) (g : tW6 H t u) : LB0 C H S O s u e := h.bw .rfl g.bw
/-- what a taken place's words must be -/
def okT (o : Int → Int → Int → Int) (j : Int) : Prop := if o 5 j 2 = 26 then isKd (uW o (o 5 j 1)) 0 else isKd (uW o (o 5 j 1)) 1 ∧ (o 5 j 2 = 19 → isKd (uW o (o 5 j 1 + 4)) 3)
theorem t_relr (h : tUn t H x o) (j0 : 0 ≤ j) (j1 : j < o 2 2 0) : jf t 1000 (H + 184) (300 * x + j) = o 5 j 0 ∧ jf t 1000 (H + 185) (300 * x + j) = o 5 j 1 ∧ jf t 1000 (H + 186) (300 * x + j) = o 5 j 2 ∧ jf t 1000 (H + 187) (300 * x + j) = o 5 j 3 ∧ jf t 1000 (H + 188) (300 * x + j) = o 5 j 4 := h.2.2.2.2.2 j j0 j1
theorem t_widthOf (h : tUn t H x o) (v : vOb o) (x0 : 0 ≤ x) (x1 : x < 6) (j0 : 0 ≤ j) (j1 : j < o 2 2 0) (hk : o 5 j 2 = 43 ∨ o 5 j 2 = 19 ∨ o 5 j 2 = 23 ∨ o 5 j 2 = 26) : m_X37_widthOf t H (300 * x + j) = some (kW (o 5 j 2) (o 5 j 4)) := by
  obtain ⟨-, r1, r2, r3, r4⟩ := t_relr h j0 j1
  have n3 := v.2.2.1.2.2.2.2.2
  rw [em_X37_widthOf]; unfold dm_X37_widthOf
  rw [jlt_in (by omega) (by omega), Option.bind_some, r2]
  unfold kW
  by_cases c : o 5 j 2 = 43
  · rw [if_pos c, if_pos c, jlt_in (by omega) (by omega), Option.bind_some, r4]
  · rw [if_neg c, if_neg c, Option.bind_some]
    by_cases c9 : o 5 j 2 = 19
    · rw [if_pos c9, if_neg (by omega), if_neg (by omega), if_neg (by omega), if_pos c9]
    · rw [if_neg c9, if_neg (by omega), if_neg (by omega), if_neg (by omega), if_neg c9]
theorem c_lengthOf (h : cOb s b o) (hT : jTt s 34 b) (v : vOb o) (j0 : 0 ≤ j) (j1 : j < o 2 2 0) (hk : o 5 j 2 = 43 ∨ o 5 j 2 = 19 ∨ o 5 j 2 = 23 ∨ o 5 j 2 = 26) : m_X35_lengthOf s l (rlA b j) = some (kW (o 5 j 2) (o 5 j 4)) := by
  obtain ⟨⟨r0, r1⟩, -, ⟨a0, a1, a2, a3, a4⟩, -⟩ := c_rel h hT v j0 j1
  rw [em_X35_lengthOf]; unfold dm_X35_lengthOf
  rw [jrd_in r0 r1, Option.bind_some, a2]
  unfold kW
  by_cases c9 : o 5 j 2 = 19
  · rw [if_pos c9, if_neg (by omega), if_neg (by omega), if_neg (by omega), if_neg (by omega), if_pos c9]
  · rw [if_neg c9, Option.bind_some]
    by_cases c : o 5 j 2 = 43
    · rw [if_pos c, if_pos c, jrd_in r0 r1, Option.bind_some, a4]
    · rw [if_neg c, if_neg c, if_neg (by omega), if_neg (by omega), if_neg (by omega), if_neg c9]
theorem t_takeHead (h : wrS C H s t) (hu : tUn t H x o) (v : vOb o) (g : gOb o) (x0 : 0 ≤ x) (x1 : x < 6) (j0 : 0 ≤ j) (j1 : j < o 2 2 0) (hk : o 5 j 2 = 19 ∨ o 5 j 2 = 23 ∨ o 5 j 2 = 26) (hz : o 5 j 0 = 0) : ∃ t1 W2 y, m_X37_takenPiece t H x p (300 * x + j) = u_X37_takenPiece_192 t1 H x p (300 * x + j) (o 5 j 1) (kW (o 5 j 2) (o 5 j 4)) (uW o (o 5 j 1)) W2 y ∧ tW6 H t t1 ∧ pRows t1 (H + 5) ∧ (o 5 j 2 = 19 → W2 = uW o (o 5 j 1 + 4)) ∧ (y = 0 ∨ y = 1) ∧ (y = 1 ↔ okT o j) := by
  obtain ⟨-, r1, r2, r3, r4⟩ := t_relr hu j0 j1
  have n3 := v.2.2.1.2.2.2.2.2
  obtain ⟨-, l1, l2, l3, l4⟩ := rel_lo v g j0 j1
  rw [hz] at l4
  have lw : 4 ≤ kW (o 5 j 2) (o 5 j 4) ∧ (o 5 j 2 = 19 → kW (o 5 j 2) (o 5 j 4) = 8) := by
    unfold kW
    rw [if_neg (by omega), if_neg (by omega), if_neg (by omega), if_neg (by omega)]
    by_cases c9 : o 5 j 2 = 19
    · rw [if_pos c9]; exact ⟨by decide, fun _ => rfl⟩
    · rw [if_neg c9]; exact ⟨by decide, fun z => absurd z c9⟩
  rw [em_X37_takenPiece]; unfold dm_X37_takenPiece
  rw [jlt_in (by omega) (by omega), Option.bind_some, t_widthOf hu v x0 x1 j0 j1 (.inr hk), Option.bind_some, jlt_in (by omega) (by omega), Option.bind_some, r1, r2, if_neg (by omega), t_unitW hu v x0 x1 l1 (by omega), Option.bind_some]
  obtain ⟨kr, t1, -, e2, ek, T1, R1⟩ := x_kind h (v := uW o (o 5 j 1)) uW_in
  rw [e2, Option.bind_some]
  dsimp only
  rw [jlt_in (by omega) (by omega), Option.bind_some, T1.2 _ _ _ (by omega), r2]
  have F186 : jf t1 1000 (H + 186) (300 * x + j) = o 5 j 2 := by rw [T1.2 _ _ _ (by omega)]; exact r2
  have hu1 : tUn t1 H x o := hu.cg v fun c a k hp => T1.2 _ _ _ (by unfold uPl at hp; omega)
  have h1 : wrS C H s t1 := ⟨h.1, R1, h.2.2⟩
  have end0 : ∀ t2 W2, tW6 H t t2 → pRows t2 (H + 5) → (o 5 j 2 = 19 → W2 = uW o (o 5 j 1 + 4)) → ¬ okT o j → ∃ t1 W' y, u_X37_takenPiece_191 t2 H x p (300 * x + j) (o 5 j 1) (kW (o 5 j 2) (o 5 j 4)) (uW o (o 5 j 1)) W2 = u_X37_takenPiece_192 t1 H x p (300 * x + j) (o 5 j 1) (kW (o 5 j 2) (o 5 j 4)) (uW o (o 5 j 1)) W' y ∧ tW6 H t t1 ∧ pRows t1 (H + 5) ∧ (o 5 j 2 = 19 → W' = uW o (o 5 j 1 + 4)) ∧ (y = 0 ∨ y = 1) ∧ (y = 1 ↔ okT o j) := fun t2 W2 a1 a2 a3 a4 => by
    rw [eu_X37_takenPiece_191]; unfold du_X37_takenPiece_191
    exact ⟨t2, W2, 0, rfl, a1, a2, a3, .inl rfl, fun z => absurd z (by decide), fun z => absurd z a4⟩
  have end1 : ∀ t2 W2, tW6 H t t2 → pRows t2 (H + 5) → (o 5 j 2 = 19 → W2 = uW o (o 5 j 1 + 4)) → okT o j → ∃ t1 W' y, u_X37_takenPiece_187 t2 H x p (300 * x + j) (o 5 j 1) (kW (o 5 j 2) (o 5 j 4)) (uW o (o 5 j 1)) W2 = u_X37_takenPiece_192 t1 H x p (300 * x + j) (o 5 j 1) (kW (o 5 j 2) (o 5 j 4)) (uW o (o 5 j 1)) W' y ∧ tW6 H t t1 ∧ pRows t1 (H + 5) ∧ (o 5 j 2 = 19 → W' = uW o (o 5 j 1 + 4)) ∧ (y = 0 ∨ y = 1) ∧ (y = 1 ↔ okT o j) := fun t2 W2 a1 a2 a3 a4 => by
    rw [eu_X37_takenPiece_187]; unfold du_X37_takenPiece_187
    exact ⟨t2, W2, 1, rfl, a1, a2, a3, .inr rfl, fun _ => a4, fun _ => rfl⟩
  by_cases c26 : o 5 j 2 = 26
  · have ok : okT o j ↔ kr = 0 := by
      unfold okT; rw [if_pos c26]
      exact ⟨fun z => isKd_one ek z, fun z => by rw [z] at ek; exact ek⟩
    rw [if_pos c26]
    have step : ∀ f, u_X37_takenPiece_130 t1 H x p (300 * x + j) (o 5 j 1) (kW (o 5 j 2) (o 5 j 4)) (uW o (o 5 j 1)) f = if f = 0 then u_X37_takenPiece_191 t1 H x p (300 * x + j) (o 5 j 1) (kW (o 5 j 2) (o 5 j 4)) (uW o (o 5 j 1)) 0 else u_X37_takenPiece_187 t1 H x p (300 * x + j) (o 5 j 1) (kW (o 5 j 2) (o 5 j 4)) (uW o (o 5 j 1)) 0 := fun f => by
      rw [eu_X37_takenPiece_130]; unfold du_X37_takenPiece_130
      rw [jlt_in (by omega) (by omega), Option.bind_some, F186, if_neg (by omega), eu_X37_takenPiece_156]; unfold du_X37_takenPiece_156
      by_cases cf : f = 0
      · rw [if_pos cf, if_pos cf]
      · rw [if_neg cf, if_neg cf, jlt_in (by omega) (by omega), Option.bind_some, F186, if_neg (by omega)]
    by_cases c0 : kr = 0
    · rw [if_pos c0, step, if_neg (by decide)]
      exact end1 t1 0 T1 R1 (fun z => by omega) (ok.mpr c0)
    · rw [if_neg c0, step, if_pos rfl]
      exact end0 t1 0 T1 R1 (fun z => by omega) (fun z => c0 (ok.mp z))
  · rw [if_neg c26]
    by_cases c9 : o 5 j 2 = 19
    · have l8 := lw.2 c9
      have W9 : m_X37_unitWord t1 H x (W32 (o 5 j 1 + 4)) = some (uW o (o 5 j 1 + 4)) := by
        rw [W32_in (by omega) (by omega)]; exact t_unitW hu1 v x0 x1 (by omega) (by omega)
      have step : ∀ f, u_X37_takenPiece_130 t1 H x p (300 * x + j) (o 5 j 1) (kW (o 5 j 2) (o 5 j 4)) (uW o (o 5 j 1)) f = u_X37_takenPiece_156 t1 H x p (300 * x + j) (o 5 j 1) (kW (o 5 j 2) (o 5 j 4)) (uW o (o 5 j 1)) f (uW o (o 5 j 1 + 4)) := fun f => by
        rw [eu_X37_takenPiece_130]; unfold du_X37_takenPiece_130
        rw [jlt_in (by omega) (by omega), Option.bind_some, F186, if_pos c9, W9, Option.bind_some]
      by_cases c1 : kr = 1
      · rw [if_pos c1, step, eu_X37_takenPiece_156]; unfold du_X37_takenPiece_156
        rw [if_neg (by decide), jlt_in (by omega) (by omega), Option.bind_some, F186, if_pos c9]
        obtain ⟨k3, t2, -, e3, ek3, T2, R2⟩ := x_kind h1 (v := uW o (o 5 j 1 + 4)) uW_in
        rw [e3, Option.bind_some]
        dsimp only
        have ok : okT o j ↔ k3 = 3 := by
          unfold okT; rw [if_neg c26]
          exact ⟨fun z => isKd_one ek3 (z.2 c9), fun z => ⟨by rw [c1] at ek; exact ek, fun _ => by rw [z] at ek3; exact ek3⟩⟩
        by_cases c3 : k3 = 3
        · rw [if_pos c3]; exact end1 t2 _ (T1.trans T2) R2 (fun _ => rfl) (ok.mpr c3)
        · rw [if_neg c3]; exact end0 t2 _ (T1.trans T2) R2 (fun _ => rfl) (fun z => c3 (ok.mp z))
      · rw [if_neg c1, step, eu_X37_takenPiece_156]; unfold du_X37_takenPiece_156
        rw [if_pos rfl]
        refine end0 t1 _ T1 R1 (fun _ => rfl) (fun z => c1 ?_)
        unfold okT at z; rw [if_neg c26] at z; exact isKd_one ek z.1
    · have ok : okT o j ↔ kr = 1 := by
        unfold okT; rw [if_neg c26]
        exact ⟨fun z => isKd_one ek z.1, fun z => ⟨by rw [z] at ek; exact ek, fun q => absurd q c9⟩⟩
      have step : ∀ f, u_X37_takenPiece_130 t1 H x p (300 * x + j) (o 5 j 1) (kW (o 5 j 2) (o 5 j 4)) (uW o (o 5 j 1)) f = if f = 0 then u_X37_takenPiece_191 t1 H x p (300 * x + j) (o 5 j 1) (kW (o 5 j 2) (o 5 j 4)) (uW o (o 5 j 1)) 0 else u_X37_takenPiece_187 t1 H x p (300 * x + j) (o 5 j 1) (kW (o 5 j 2) (o 5 j 4)) (uW o (o 5 j 1)) 0 := fun f => by
        rw [eu_X37_takenPiece_130]; unfold du_X37_takenPiece_130
        rw [jlt_in (by omega) (by omega), Option.bind_some, F186, if_neg c9, eu_X37_takenPiece_156]; unfold du_X37_takenPiece_156
        by_cases cf : f = 0
        · rw [if_pos cf, if_pos cf]
        · rw [if_neg cf, if_neg cf, jlt_in (by omega) (by omega), Option.bind_some, F186, if_neg c9]
      by_cases c1 : kr = 1
      · rw [if_pos c1, step, if_neg (by decide)]
        exact end1 t1 0 T1 R1 (fun z => absurd z c9) (ok.mpr c1)
      · rw [if_neg c1, step, if_pos rfl]
        exact end0 t1 0 T1 R1 (fun z => absurd z c9) (fun z => c1 (ok.mp z))
/-- the component -/
theorem c_madeHead (h : wrS C H s t) (hO : cOb s b o) (hT : jTt s 34 b) (v : vOb o) (g : gOb o) (j0 : 0 ≤ j) (j1 : j < o 2 2 0) (hk : o 5 j 2 = 19 ∨ o 5 j 2 = 23 ∨ o 5 j 2 = 26) (hz : o 5 j 0 = 0) : ∃ y, m_X35_madeOf s (C + 4275) p x j b y0 = u_X35_madeOf_128 s (C + 4275) p x j b y0 (rlA b j) (uW o (o 5 j 1)) y ∧ (y = 0 ∨ y = 1) ∧ (y = 1 ↔ okT o j) := by
  obtain ⟨⟨r0, r1⟩, rA, ⟨a0, a1, a2, a3, a4⟩, ⟨b0, b1, b2⟩, ⟨c0, c1⟩, c5, c6⟩ := c_rel hO hT v j0 j1
  have n3 := v.2.2.1.2.2.2.2.2
  obtain ⟨-, l1, l2, l3, l4⟩ := rel_lo v g j0 j1
  rw [hz] at l4
  have lw : 4 ≤ kW (o 5 j 2) (o 5 j 4) ∧ (o 5 j 2 = 19 → kW (o 5 j 2) (o 5 j 4) = 8) := by
    unfold kW
    rw [if_neg (by omega), if_neg (by omega), if_neg (by omega), if_neg (by omega)]
    by_cases c9 : o 5 j 2 = 19
    · rw [if_pos c9]; exact ⟨by decide, fun _ => rfl⟩
    · rw [if_neg c9]; exact ⟨by decide, fun z => absurd z c9⟩
  have eW : C + 4275 + -4274 = C + 1 := by omega
  have eB : jld s 1012 (b + 4) j = some (rlA b j) := by
    unfold jld; rw [if_pos ⟨b0, b1, j0, by rw [b2]; omega⟩, rA]
  obtain ⟨kr, -, e1, -, ek, -, -⟩ := x_kind h (v := uW o (o 5 j 1)) uW_in
  rw [em_X35_madeOf]; unfold dm_X35_madeOf
  rw [jrd_in c0 c1, Option.bind_some, c5, eB, Option.bind_some, jrd_in r0 r1, Option.bind_some, a2, if_neg (by omega), jrd_in r0 r1, Option.bind_some, a1, c_wordIn hO hT v l1 (by omega), Option.bind_some, eW, e1, Option.bind_some, Option.bind_some]
  have end0 : ¬ okT o j → ∃ y, u_X35_madeOf_127 s (C + 4275) p x j b y0 (rlA b j) (uW o (o 5 j 1)) = u_X35_madeOf_128 s (C + 4275) p x j b y0 (rlA b j) (uW o (o 5 j 1)) y ∧ (y = 0 ∨ y = 1) ∧ (y = 1 ↔ okT o j) := fun hn => by
    rw [eu_X35_madeOf_127]; unfold du_X35_madeOf_127
    exact ⟨0, rfl, .inl rfl, fun z => absurd z (by decide), fun z => absurd z hn⟩
  have end1 : okT o j → ∃ y, u_X35_madeOf_123 s (C + 4275) p x j b y0 (rlA b j) (uW o (o 5 j 1)) = u_X35_madeOf_128 s (C + 4275) p x j b y0 (rlA b j) (uW o (o 5 j 1)) y ∧ (y = 0 ∨ y = 1) ∧ (y = 1 ↔ okT o j) := fun hn => by
    rw [eu_X35_madeOf_123]; unfold du_X35_madeOf_123
    exact ⟨1, rfl, .inr rfl, fun _ => hn, fun _ => rfl⟩
  by_cases c26 : o 5 j 2 = 26
  · have ok : okT o j ↔ kr = 0 := by
      unfold okT; rw [if_pos c26]
      exact ⟨fun z => isKd_one ek z, fun z => by rw [z] at ek; exact ek⟩
    rw [if_pos c26, eu_X35_madeOf_81]; unfold du_X35_madeOf_81
    by_cases c0 : kr = 0
    · rw [if_pos c0, jrd_in r0 r1, Option.bind_some, a2, if_neg (by omega)]; exact end1 (ok.mpr c0)
    · rw [if_neg c0]; exact end0 (fun z => c0 (ok.mp z))
  · rw [if_neg c26, eu_X35_madeOf_81]; unfold du_X35_madeOf_81
    by_cases ck1 : kr = 1
    · rw [if_pos ck1, jrd_in r0 r1, Option.bind_some, a2]
      by_cases c9 : o 5 j 2 = 19
      · have l8 := lw.2 c9
        obtain ⟨k3, -, e3, -, ek3, -, -⟩ := x_kind h (v := uW o (o 5 j 1 + 4)) uW_in
        rw [if_pos c9, jrd_in r0 r1, Option.bind_some, a1, W32_in (by omega) (by omega), c_wordIn hO hT v (by omega) (by omega), Option.bind_some, eW, e3, Option.bind_some]
        have ok : okT o j ↔ k3 = 3 := by
          unfold okT; rw [if_neg c26]
          exact ⟨fun z => isKd_one ek3 (z.2 c9), fun z => ⟨by rw [ck1] at ek; exact ek, fun _ => by rw [z] at ek3; exact ek3⟩⟩
        by_cases c3 : k3 = 3
        · rw [if_pos c3]; exact end1 (ok.mpr c3)
        · rw [if_neg c3]; exact end0 (fun z => c3 (ok.mp z))
      · rw [if_neg c9]
        refine end1 ?_
        unfold okT; rw [if_neg c26]; exact ⟨by rw [ck1] at ek; exact ek, fun q => absurd q c9⟩
    · rw [if_neg ck1]
      refine end0 (fun z => ck1 ?_)
      unfold okT at z; rw [if_neg c26] at z; exact isKd_one ek z.1
end jTkh
