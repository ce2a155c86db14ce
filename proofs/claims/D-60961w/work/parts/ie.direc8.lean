/-! directives: numbers, first their values *-/
section jDirec8
variable {s t u w t' : jS} {v A H b lo W k c a hh x y f d n o j e i : Int} {NL : List (List Int)} {I : pI} {OL : List pvO} {SL : List pvS} {z : pvS} {zo : pvO} {Q Q' : jS → jS → Int → Prop} {q : jS × Bool × Int} {r : jS}
/-- a value that was put aside on both sides -/
def vaR (u w : jS) (A H i : Int) : Prop := jf u 1000 (A + 20) i = jf w 1000 (H + 166) i ∧ jf u 1000 (A + 21) i = jf w 1000 (H + 167) i ∧ jf u 1000 (A + 22) i = jf w 1000 (H + 168) i ∧ jin (jf w 1000 (H + 166) i) ∧ (-1 ≤ jf w 1000 (H + 167) i ∧ jf w 1000 (H + 167) i < jf w 41 H 12) ∧ (-1 ≤ jf w 1000 (H + 168) i ∧ jf w 1000 (H + 168) i < jf w 41 H 12)
theorem AG.vrow (h : AG s t A H b lo NL I OL SL k z) (tf : tF H t w) (gv : ∀ c a k, ¬ (c = 1000 ∧ H + 166 ≤ a ∧ a ≤ H + 168) → jf w c a k = jf t c a k) : AG s w A H b lo NL I OL SL k z := by
  obtain ⟨aS, aT, aI, aB, aM, aSt, aK, aH, a0⟩ := h.1.2.2.2.1
  have R : AR s w A H b lo NL I OL SL k z := h.1.mk cFa.rfl tf ⟨aS.cg (fun c a j _ => rfl) (fun c a j _ => gv _ _ _ (by omega)), aT.cg (fun c a j _ => rfl) (fun c a j _ => gv _ _ _ (by omega)) (by rw [gv _ _ _ (by omega)]; omega), aI.cg fun a j _ => gv _ _ _ (by omega), aB.cg (fun c a j _ => rfl) (fun c a j _ => gv _ _ _ (by omega)), aM.cg (fun c a j _ => rfl) (fun c a j _ => gv _ _ _ (by omega)), aSt.cg (fun c a j _ => rfl) (fun c a j _ => gv _ _ _ (by omega)), aK.cg (fun c a j _ => rfl) (fun c a j _ => gv _ _ _ (by omega)), aH.cg (fun c a j _ => rfl) (fun c a j _ => gv _ _ _ (by omega)) (by rw [gv _ _ _ (by omega)]; omega), by rw [gv _ _ _ (by omega)]; exact a0⟩
  exact h.bk R ⟨rfl, rfl⟩ ⟨gv _ _ _ (by omega), gv _ _ _ (by omega)⟩
theorem nums1 (hx : x = 1 ∨ x = 2 ∨ x = 4) : ∀ (m : Nat) (j : Int) (s t : jS), AG s t A H b lo NL I OL SL k z → 0 ≤ j → j + m = z.2.2.2.1 → alS 0 OL z j → (∀ i, 0 ≤ i → i < j → vaR s t A H i) →
    (∃ q r, u_X33_numbers_32 s A x j = some q ∧ u_X37_data_76 t H x j = some (r, 0) ∧ aBad s t A H q r) ∨
    (∃ u w, u_X33_numbers_32 s A x j = u_X33_numbers_172 u A x ∧ u_X37_data_76 t H x j = u_X37_data_254 w H x ∧ AG u w A H b lo NL I OL SL k z ∧ cFa A s u 0 0 ∧ tF H t w ∧ (∀ i, 0 ≤ i → i < z.2.2.2.1 → vaR u w A H i) ∧ jf w 41 H 26 = jf t 41 H 26 ∧ jf w 41 H 34 = jf t 41 H 34)
  | 0, j, s, t, h, j0, hj, al, hv => by
    refine .inr ⟨s, t, ?_, ?_, h, cFa.rfl, tF.rfl, fun i i0 i1 => hv i i0 (by omega), rfl, rfl⟩
    · rw [eu_X33_numbers_32]; unfold du_X33_numbers_32
      refine jlpW_r ?_
      show b_X33_numbers_32 s A x j = _
      unfold b_X33_numbers_32
      rw [h.2.1.2.2.1, if_neg (by omega)]
    · rw [eu_X37_data_76]; unfold du_X37_data_76
      refine jlpW_r ?_
      show b_X37_data_76 t H x j = _
      unfold b_X37_data_76
      rw [h.2.1.2.2.2, if_neg (by omega)]
  | m + 1, j, s, t, h, j0, hj, al, hv => by
    have j1 : j < z.2.2.2.1 := by omega
    have st00 := h.1.st0
    obtain ⟨o1, o2, o3, og, o5⟩ := h.1.op j0 j1
    have cx : opSr 0 (tO OL (z.2.2.1 + j)) := al j (Int.le_refl _) j1
    have wj : W32 (jf t 41 H 45 + j) = z.2.2.1 + j := by rw [h.2.1.2.1, W32_in (by omega) (by omega)]
    have eb : jc3 b_X33_numbers_32 [A, x, j] s = (m_X33_value s A j).bind fun q1 => jth q1.2.1 (jinr (some (q1.1, true, q1.2.2))) ((jlt q1.1 1000 (A + 21) 800 j).bind fun v2 => if v2 = (-1) then (jlt q1.1 1000 (A + 22) 800 j).bind fun v3 => if v3 = (-1) then u_X33_numbers_70 q1.1 A x j 1 else u_X33_numbers_69 q1.1 A x j else u_X33_numbers_69 q1.1 A x j) := by
      show b_X33_numbers_32 s A x j = _
      unfold b_X33_numbers_32
      rw [h.2.1.2.2.1, if_pos (by omega)]
    have ey : jc3 b_X37_data_76 [H, x, j] t = (m_X37_evaluate t H (z.2.2.1 + j)).bind fun q2 => if q2.2 = 0 then jinr (some (q2.1, Wz 0)) else if (jf q2.1 41 H 53) = (-1) then if (jf q2.1 41 H 54) = (-1) then u_X37_data_119 q2.1 H x j (z.2.2.1 + j) else jinr (u_X37_data_131 q2.1 H (z.2.2.1 + j)) else u_X37_data_119 q2.1 H x j (z.2.2.1 + j) := by
      show b_X37_data_76 t H x j = _
      unfold b_X37_data_76
      rw [h.2.1.2.2.2, if_pos (by omega)]
      simp only [jlet]
      rw [wj]
    rcases value3 h j0 j1 (.inl cx.1) with ⟨q, r, e1, e2, e3⟩ | ⟨u, w, v, e1, e2, e3, e4, e5, ⟨v1, v2, ⟨c20, c21, c22⟩, ⟨g52, g53, g54⟩, v5⟩⟩
    · left
      refine ⟨q, r, ?_, ?_, e3⟩
      · rw [eu_X33_numbers_32]; unfold du_X33_numbers_32
        refine jlpW_r (r := some q) ?_
        rw [eb, e1, Option.bind_some, e3.th]; rfl
      · rw [eu_X37_data_76]; unfold du_X37_data_76
        refine jlpW_r (r := some (r, 0)) ?_
        rw [ey, e2, Option.bind_some, Wz_0]
        dsimp only
        rw [if_pos rfl]
    rw [e1, Option.bind_some] at eb
    rw [e2, Option.bind_some] at ey
    dsimp only at eb ey
    rw [jth_ff, jlt_in j0 (by omega), Option.bind_some, c21, jlt_in j0 (by omega), Option.bind_some, c22] at eb
    rw [if_neg n10] at ey
    -- the fault at the operand
    have bad : ∀ o', ¬ o' = 0 → ∃ q r, m_X33_needAt u A 0 o' j = some q ∧ (m_X37_placeOf w H (z.2.2.1 + j)).bind (fun q1 => (m_X37_fail_2 q1.1 H o' q1.2).bind fun q2 => some (q2.1, Wz q2.2)) = some (r, 0) ∧ aBad s t A H q r := fun o' ho => by
      obtain ⟨q, r, d1, d2, d3⟩ := needAt2 (o := o') e3.1 ho j0 j1 e3.2.1.1
      refine ⟨q, r, d1, ?_, d3.after e4 e5⟩
      rw [y_placeOf e3.1.2.1 o1 o2, Option.bind_some, d2, Option.bind_some, Wz_0]
    have fail1 : ∀ {bx by' : _}, jc3 b_X33_numbers_32 [A, x, j] s = bx → jc3 b_X37_data_76 [H, x, j] t = by' → (∃ q r, bx = jinr (some q) ∧ by' = jinr (some (r, 0)) ∧ aBad s t A H q r) → (∃ q r, u_X33_numbers_32 s A x j = some q ∧ u_X37_data_76 t H x j = some (r, 0) ∧ aBad s t A H q r) := by
      intro bx by' h1 h2 ⟨q, r, d1, d2, d3⟩
      refine ⟨q, r, ?_, ?_, d3⟩
      · rw [eu_X33_numbers_32]; unfold du_X33_numbers_32
        exact jlpW_r (by rw [h1, d1])
      · rw [eu_X37_data_76]; unfold du_X37_data_76
        exact jlpW_r (by rw [h2, d2])
    have bad14 : ∃ q r, u_X33_numbers_106 u A x j 0 0 A = jinr (some q) ∧ u_X37_data_131 w H (z.2.2.1 + j) = some (r, 0) ∧ aBad s t A H q r := by
      obtain ⟨q, r, d1, d2, d3⟩ := bad 14 (by decide)
      refine ⟨q, r, ?_, ?_, d3⟩
      · rw [eu_X33_numbers_106]; unfold du_X33_numbers_106
        rw [d1, Option.bind_some, d3.th]; rfl
      · rw [eu_X37_data_131]; unfold du_X37_data_131
        exact d2
    have bad15 : ∃ q r, u_X33_numbers_160 u A x j 0 A = jinr (some q) ∧ u_X37_data_205 w H (z.2.2.1 + j) = some (r, 0) ∧ aBad s t A H q r := by
      obtain ⟨q, r, d1, d2, d3⟩ := bad 15 (by decide)
      refine ⟨q, r, ?_, ?_, d3⟩
      · rw [eu_X33_numbers_160]; unfold du_X33_numbers_160
        rw [d1, Option.bind_some, d3.th]; rfl
      · rw [eu_X37_data_205]; unfold du_X37_data_205
        exact d2
    -- on to the next one
    obtain ⟨w1, G1⟩ : ∃ w1, w1 = jp w 1000 (H + 166) j (jf w 41 H 52) := ⟨_, rfl⟩
    obtain ⟨w2, G2⟩ : ∃ w2, w2 = jp w1 1000 (H + 167) j (jf w 41 H 53) := ⟨_, rfl⟩
    obtain ⟨w3, G3⟩ : ∃ w3, w3 = jp w2 1000 (H + 168) j (jf w 41 H 54) := ⟨_, rfl⟩
    obtain ⟨p1, r1, -⟩ := jpF G1
    obtain ⟨p2, r2, -⟩ := jpF G2
    obtain ⟨p3, r3, -⟩ := jpF G3
    have tf3 : tF H w w3 := ((tF.rfl.wr G1 (by omega)).wr G2 (by omega)).wr G3 (by omega)
    have gv3 : ∀ c a k, ¬ (c = 1000 ∧ H + 166 ≤ a ∧ a ≤ H + 168) → jf w3 c a k = jf w c a k := fun c a k hc => by rw [p3 _ _ _ (by omega), p2 _ _ _ (by omega), p1 _ _ _ (by omega)]
    have go218 : u_X37_data_218 w H x j = some (.inl (w3, [H, x, j + 1])) := by
      rw [eu_X37_data_218]; unfold du_X37_data_218
      rw [jst_in j0 (by omega), Option.bind_some, ← G1, p1 41 H 53 (by omega), jst_in j0 (by omega), Option.bind_some, ← G2, p2 41 H 54 (by omega), p1 41 H 54 (by omega), jst_in j0 (by omega), Option.bind_some, ← G3, W32_in (by omega) (by omega)]
    have go160 : u_X33_numbers_160 u A x j 1 A = some (.inl (u, [A, x, j + 1])) := by
      rw [eu_X33_numbers_160]; unfold du_X33_numbers_160
      rw [needAt1 (by decide), Option.bind_some]
      dsimp only
      rw [jth_ff, W32_in (by omega) (by omega)]
    have next : jc3 b_X33_numbers_32 [A, x, j] s = some (.inl (u, [A, x, j + 1])) → jc3 b_X37_data_76 [H, x, j] t = some (.inl (w3, [H, x, j + 1])) → (∃ q r, u_X33_numbers_32 s A x j = some q ∧ u_X37_data_76 t H x j = some (r, 0) ∧ aBad s t A H q r) ∨ (∃ u w, u_X33_numbers_32 s A x j = u_X33_numbers_172 u A x ∧ u_X37_data_76 t H x j = u_X37_data_254 w H x ∧ AG u w A H b lo NL I OL SL k z ∧ cFa A s u 0 0 ∧ tF H t w ∧ (∀ i, 0 ≤ i → i < z.2.2.2.1 → vaR u w A H i) ∧ jf w 41 H 26 = jf t 41 H 26 ∧ jf w 41 H 34 = jf t 41 H 34) := fun h1 h2 => by
      have vals : ∀ i, 0 ≤ i → i < j + 1 → vaR u w3 A H i := fun i i0 i1 => by
        unfold vaR
        rw [gv3 41 H 12 (by omega)]
        by_cases ci : i = j
        · subst ci
          rw [p3 _ _ _ (by omega), p2 _ _ _ (by omega), r1, p3 1000 (H + 167) i (by omega), r2, r3]
          exact ⟨c20, c21, c22, g52, g53, g54⟩
        · obtain ⟨a1, a2, a3, a4, a5, a6⟩ := hv i i0 (by omega)
          have n12 := v5.1
          rw [p3 _ _ _ (by omega), p2 _ _ _ (by omega), p1 _ _ _ (by omega), p3 1000 (H + 167) i (by omega), p2 1000 (H + 167) i (by omega), p1 1000 (H + 167) i (by omega), p3 1000 (H + 168) i (by omega), p2 1000 (H + 168) i (by omega), p1 1000 (H + 168) i (by omega), v1 1000 (A + 20) i (by omega) (by omega) (by omega), v1 1000 (A + 21) i (by omega) (by omega) (by omega), v1 1000 (A + 22) i (by omega) (by omega) (by omega), v2 1000 (H + 166) i (by omega) (by omega), v2 1000 (H + 167) i (by omega) (by omega), v2 1000 (H + 168) i (by omega) (by omega)]
          exact ⟨a1, a2, a3, a4, by omega, by omega⟩
      have s1 : u_X33_numbers_32 s A x j = u_X33_numbers_32 u A x (j + 1) := by
        rw [eu_X33_numbers_32]; unfold du_X33_numbers_32
        exact jlpW_l h1
      have s2 : u_X37_data_76 t H x j = u_X37_data_76 w3 H x (j + 1) := by
        rw [eu_X37_data_76]; unfold du_X37_data_76
        exact jlpW_l h2
      rw [s1, s2]
      rcases nums1 hx m (j + 1) u w3 (e3.vrow tf3 gv3) (by omega) (by omega) (fun i i0 i1 => al i (by omega) i1) vals with ⟨q, r, d1, d2, d3⟩ | ⟨u', w', d1, d2, d3, d4, d5, d6, d7, d8⟩
      · exact .inl ⟨q, r, d1, d2, d3.after e4 (e5.trans tf3)⟩
      · refine .inr ⟨u', w', d1, d2, d3, (e4.trans d4 : cFa A s u' (0 + 0) (0 + 0)), (e5.trans tf3).trans d5, d6, ?_, ?_⟩
        · rw [d7, gv3 _ _ _ (by omega), v2 _ _ _ (by omega) (by omega)]
        · rw [d8, gv3 _ _ _ (by omega), v2 _ _ _ (by omega) (by omega)]
    -- what the component does when it is a number, and when not
    have c106 : ∀ pl : Int, u_X33_numbers_106 u A x j pl 1 A = if pl = 0 then u_X33_numbers_160 u A x j 1 A else if x = 4 then u_X33_numbers_160 u A x j 1 A else if jf w 41 H 52 < (W32 (-(I_shl 1 (W32 ((W32 (8 * x)) - 1))))) then u_X33_numbers_160 u A x j 0 A else if jf w 41 H 52 < (I_shl 1 (W32 (8 * x))) then u_X33_numbers_160 u A x j 1 A else u_X33_numbers_160 u A x j 0 A := fun pl => by
      rw [eu_X33_numbers_106]; unfold du_X33_numbers_106
      rw [needAt1 (by decide), Option.bind_some]
      dsimp only
      rw [jth_ff, jlt_in j0 (by omega), Option.bind_some, Option.bind_some, c20, eu_X33_numbers_155, eu_X33_numbers_159]; unfold du_X33_numbers_155 du_X33_numbers_159
      rfl
    have y173 : ∀ lo' hi' : Int, u_X37_data_173 w H x j (z.2.2.1 + j) lo' hi' = if jf w 41 H 53 = -1 ∧ jf w 41 H 54 = -1 then if x < 4 then if jf w 41 H 52 < lo' then jinr (u_X37_data_205 w H (z.2.2.1 + j)) else if hi' < jf w 41 H 52 then jinr (u_X37_data_205 w H (z.2.2.1 + j)) else some (.inl (w3, [H, x, j + 1])) else some (.inl (w3, [H, x, j + 1])) else some (.inl (w3, [H, x, j + 1])) := fun lo' hi' => by
      rw [eu_X37_data_173]; unfold du_X37_data_173
      rw [plainI, Option.bind_some, go218]
      by_cases c : jf w 41 H 53 = -1 ∧ jf w 41 H 54 = -1
      · rw [if1 c, if_neg n10, if_pos c]
      · rw [if0 c, if_pos rfl, if_neg c]
    have y144 : u_X37_data_144 w H x j (z.2.2.1 + j) = if x = 1 then u_X37_data_173 w H x j (z.2.2.1 + j) (-128) 255 else u_X37_data_173 w H x j (z.2.2.1 + j) (-32768) 65535 := by
      rw [eu_X37_data_144]; unfold du_X37_data_144
      rw [eu_X37_data_157]; unfold du_X37_data_157
      by_cases c : x = 1
      · rw [if_pos c, if_pos c, if_pos c]
      · rw [if_neg c, if_neg c, if_neg c]
    have y119 : u_X37_data_119 w H x j (z.2.2.1 + j) = if ¬ jf w 41 H 53 = -1 ∧ jf w 41 H 54 = -1 then if x < 4 then jinr (u_X37_data_131 w H (z.2.2.1 + j)) else u_X37_data_144 w H x j (z.2.2.1 + j) else u_X37_data_144 w H x j (z.2.2.1 + j) := by
      rw [eu_X37_data_119]; unfold du_X37_data_119
      rw [placedI, Option.bind_some]
      by_cases c : ¬ jf w 41 H 53 = -1 ∧ jf w 41 H 54 = -1
      · rw [if1 c, if_neg n10, if_pos c]
      · rw [if0 c, if_pos rfl, if_neg c]
    have c101 : ∀ pl : Int, u_X33_numbers_101 u A x j pl A = u_X33_numbers_106 u A x j pl 1 A := fun pl => by rw [eu_X33_numbers_101]; rfl
    have c105 : ∀ pl : Int, u_X33_numbers_105 u A x j pl A = u_X33_numbers_106 u A x j pl 0 A := fun pl => by rw [eu_X33_numbers_105]; rfl
    have c70p : u_X33_numbers_70 u A x j 1 = u_X33_numbers_106 u A x j 1 1 A := by
      rw [eu_X33_numbers_70]; unfold du_X33_numbers_70
      rw [if_neg n10, c101]
    have c69 : u_X33_numbers_69 u A x j = if jf w 41 H 53 = -1 then u_X33_numbers_106 u A x j 0 0 A else if x = 4 then u_X33_numbers_106 u A x j 0 1 A else if jf w 41 H 54 = -1 then u_X33_numbers_106 u A x j 0 0 A else u_X33_numbers_106 u A x j 0 1 A := by
      rw [eu_X33_numbers_69]; unfold du_X33_numbers_69
      rw [eu_X33_numbers_70]; unfold du_X33_numbers_70
      rw [if_pos rfl, jlt_in j0 (by omega), Option.bind_some, c21, jlt_in j0 (by omega), Option.bind_some, c22, c101, c105]
    have cno : u_X33_numbers_106 u A x j 0 1 A = some (.inl (u, [A, x, j + 1])) := by rw [c106, if_pos rfl, go160]
    by_cases q1 : jf w 41 H 53 = -1
    · rw [if_pos q1] at eb ey
      by_cases q2 : jf w 41 H 54 = -1
      rotate_left
      · rw [if_neg q2] at eb ey
        rw [c69, if_pos q1] at eb
        obtain ⟨q, r, d1, d2, d3⟩ := bad14
        exact .inl (fail1 (eb.trans d1) (ey.trans (by rw [d2])) ⟨q, r, rfl, rfl, d3⟩)
      rw [if_pos q2, c70p, c106, if_neg n10] at eb
      have npl : ¬ (¬ jf w 41 H 53 = -1 ∧ jf w 41 H 54 = -1) := fun e => e.1 q1
      have pl : jf w 41 H 53 = -1 ∧ jf w 41 H 54 = -1 := ⟨q1, q2⟩
      rw [if_pos q2, y119, if_neg npl, y144, y173, y173, if_pos pl, if_pos pl] at ey
      rcases hx with rfl | rfl | rfl
      · rw [if_neg (show ¬ (1 : Int) = 4 by decide), W32_in (z := 8 * 1) (by omega) (by omega), W32_in (z := 8 * 1 - 1) (by omega) (by omega), i_shl_p (by decide) (by decide), i_shl_p (by decide) (by decide), W32_in (z := 1 * 2 ^ ((8 * 1 - 1 : Int)).toNat) (by decide) (by decide), W32_in (z := 1 * 2 ^ ((8 * 1 : Int)).toNat) (by decide) (by decide), W32_in (by decide) (by decide)] at eb
        rw [if_pos (show (1 : Int) = 1 from rfl), if_pos (show (1 : Int) < 4 by decide)] at ey
        have e128 : -(1 * (2 : Int) ^ ((8 * 1 - 1 : Int)).toNat) = -128 := by decide
        have e256 : (1 * (2 : Int) ^ ((8 * 1 : Int)).toNat) = 256 := by decide
        rw [e128, e256, go160] at eb
        by_cases l1 : jf w 41 H 52 < -128
        · rw [if_pos l1] at eb ey
          obtain ⟨q, r, d1, d2, d3⟩ := bad15
          exact .inl (fail1 (eb.trans d1) (ey.trans (by rw [d2])) ⟨q, r, rfl, rfl, d3⟩)
        rw [if_neg l1] at eb ey
        by_cases l2 : jf w 41 H 52 < 256
        · rw [if_pos l2] at eb
          rw [if_neg (by omega)] at ey
          exact next eb ey
        · rw [if_neg l2] at eb
          rw [if_pos (by omega)] at ey
          obtain ⟨q, r, d1, d2, d3⟩ := bad15
          exact .inl (fail1 (eb.trans d1) (ey.trans (by rw [d2])) ⟨q, r, rfl, rfl, d3⟩)
      · rw [if_neg (show ¬ (2 : Int) = 4 by decide), W32_in (z := 8 * 2) (by omega) (by omega), W32_in (z := 8 * 2 - 1) (by omega) (by omega), i_shl_p (by decide) (by decide), i_shl_p (by decide) (by decide), W32_in (z := 1 * 2 ^ ((8 * 2 - 1 : Int)).toNat) (by decide) (by decide), W32_in (z := 1 * 2 ^ ((8 * 2 : Int)).toNat) (by decide) (by decide), W32_in (by decide) (by decide)] at eb
        rw [if_neg (show ¬ (2 : Int) = 1 by decide), if_pos (show (2 : Int) < 4 by decide)] at ey
        have e128 : -(1 * (2 : Int) ^ ((8 * 2 - 1 : Int)).toNat) = -32768 := by decide
        have e256 : (1 * (2 : Int) ^ ((8 * 2 : Int)).toNat) = 65536 := by decide
        rw [e128, e256, go160] at eb
        by_cases l1 : jf w 41 H 52 < -32768
        · rw [if_pos l1] at eb ey
          obtain ⟨q, r, d1, d2, d3⟩ := bad15
          exact .inl (fail1 (eb.trans d1) (ey.trans (by rw [d2])) ⟨q, r, rfl, rfl, d3⟩)
        rw [if_neg l1] at eb ey
        by_cases l2 : jf w 41 H 52 < 65536
        · rw [if_pos l2] at eb
          rw [if_neg (by omega)] at ey
          exact next eb ey
        · rw [if_neg l2] at eb
          rw [if_pos (by omega)] at ey
          obtain ⟨q, r, d1, d2, d3⟩ := bad15
          exact .inl (fail1 (eb.trans d1) (ey.trans (by rw [d2])) ⟨q, r, rfl, rfl, d3⟩)
      · rw [if_pos (show (4 : Int) = 4 from rfl), go160] at eb
        rw [if_neg (show ¬ (4 : Int) = 1 by decide), if_neg (show ¬ (4 : Int) < 4 by decide)] at ey
        exact next eb ey
    · rw [if_neg q1, c69, if_neg q1, cno] at eb
      have npl : ¬ (jf w 41 H 53 = -1 ∧ jf w 41 H 54 = -1) := fun e => q1 e.1
      rw [if_neg q1, y119, y144, y173, y173, if_neg npl, if_neg npl] at ey
      by_cases x4 : x = 4
      · rw [if_pos x4] at eb
        have : jc3 b_X37_data_76 [H, x, j] t = some (.inl (w3, [H, x, j + 1])) := by
          rw [ey, if_neg (show ¬ x < 4 by omega), if_neg (show ¬ x = 1 by omega)]
          split <;> rfl
        exact next eb this
      · rw [if_neg x4] at eb
        by_cases q2 : jf w 41 H 54 = -1
        · rw [if_pos q2] at eb
          have pp : ¬ jf w 41 H 53 = -1 ∧ jf w 41 H 54 = -1 := ⟨q1, q2⟩
          rw [if_pos pp, if_pos (show x < 4 by omega)] at ey
          obtain ⟨q, r, d1, d2, d3⟩ := bad14
          exact .inl (fail1 (eb.trans d1) (ey.trans (by rw [d2])) ⟨q, r, rfl, rfl, d3⟩)
        · rw [if_neg q2] at eb
          have : jc3 b_X37_data_76 [H, x, j] t = some (.inl (w3, [H, x, j + 1])) := by
            have pp : ¬ (¬ jf w 41 H 53 = -1 ∧ jf w 41 H 54 = -1) := fun e => q2 e.2
            rw [ey, if_neg pp]
            split <;> rfl
          exact next eb this
end jDirec8
