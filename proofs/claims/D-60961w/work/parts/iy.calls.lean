/-! instructions: a relocation and the bytes behind it, in either order -/
set_option maxRecDepth 100000
section jCalls
variable {s t u w s1 t1 s0 r : jS} {v A H b lo k c a x y d n o j i low kd e m p : Int} {kn : Nat} {l : List Int} {NL : List (List Int)} {I : pI} {OL : List pvO} {SL : List pvS} {z : pvS} {zo : pvO} {Q Q' : jS → jS → Int → Prop} {xx : Option (jS × Bool × Int)} {yy : Option (jS × Int)} {P P' : jS → jS}
/-- the cells of relocations -/
abbrev rcC (H c a k : Int) : Prop := c = 1000 ∧ H + 156 ≤ a ∧ a ≤ H + 160 ∨ c = 41 ∧ a = H ∧ k = 28
/-- what writes only there -/
def cmQ (H : Int) (P : jS → jS) : Prop := (∀ s c a k, ¬ rcC H c a k → jf (P s) c a k = jf s c a k) ∧ (∀ s c a k v, ¬ rcC H c a k → jp (P s) c a k v = P (jp s c a k v)) ∧ ∀ s, jSm s (P s)
theorem cmQ.jp (h : rcC H c a k) : cmQ H fun s => jp s c a k v := ⟨fun s c' a' k' z => by rw [jf_neg (by omega)], fun s c' a' k' v' z => jp_sw (by omega), fun s => jSm.rfl.jp⟩
theorem cmQ.comp (h : cmQ H P) (g : cmQ H P') : cmQ H fun s => P' (P s) := ⟨fun s c a k z => by rw [g.1 _ _ _ _ z, h.1 _ _ _ _ z], fun s c a k v z => by rw [g.2.1 _ _ _ _ _ z, h.2.1 _ _ _ _ _ z], fun s => jSm.trans (h.2.2 s) (g.2.2 _)⟩
theorem cmQ.tF (h : cmQ H P) : tF H s (P s) := ⟨h.2.2 s, fun c a k z1 z2 z3 z4 => h.1 s c a k (by omega)⟩
/-- a relocation's cells -/
def pMv (H n c p o d y : Int) (s : jS) : jS := jp (jp (jp (jp (jp (jp s 1000 (H + 156) n c) 1000 (H + 157) n p) 1000 (H + 158) n o) 1000 (H + 159) n d) 1000 (H + 160) n y) 41 H 28 (n + 1)
theorem pMv.cm : cmQ H (pMv H n c p o d y) := (((((cmQ.jp (by omega)).comp (cmQ.jp (by omega))).comp (cmQ.jp (by omega))).comp (cmQ.jp (by omega))).comp (cmQ.jp (by omega))).comp (cmQ.jp (by omega))
theorem mv_is (h0 : 0 ≤ jf t 41 H 28) (h1 : jf t 41 H 28 < 300) : m_X37_move t H p o d y = some (pMv H (jf t 41 H 28) (jf t 41 H 34) p o d y t, 1) := by
  rw [em_X37_move]; unfold dm_X37_move
  simp only [jls]
  rw [if_neg (by omega), jst_in h0 h1, Option.bind_some, jf_neg (by omega), jst_in h0 h1, Option.bind_some, jf_neg (by omega), jf_neg (by omega), jst_in h0 h1, Option.bind_some, jf_neg (by omega), jf_neg (by omega), jf_neg (by omega), jst_in h0 h1, Option.bind_some, jf_neg (by omega), jf_neg (by omega), jf_neg (by omega), jf_neg (by omega), jst_in h0 h1, Option.bind_some, jf_neg (by omega), jf_neg (by omega), jf_neg (by omega), jf_neg (by omega), jf_neg (by omega), W32_in (by omega) (by omega), Wz_1]; rfl
/-- a fault's own numbers -/
def fN (H o : Int) (t r : jS) : Prop := jf r 41 H 42 = o ∧ jf r 41 H 43 = jf t 41 H 44
theorem fail_n (h0 : jf t 41 H 42 = 0) : ∃ r, m_X37_fail t H o = some (r, 0) ∧ fN H o t r ∧ tF H t r := by
  rw [em_X37_fail]; unfold dm_X37_fail
  rw [em_X37_fail_2]; unfold dm_X37_fail_2
  simp only [jls]
  rw [if_pos h0, Option.bind_some, Wz_0, Wz_0]
  obtain ⟨u1, E1⟩ : ∃ u1, u1 = jp t 41 H 42 o := ⟨_, rfl⟩
  obtain ⟨f1, p1, -⟩ := jpF E1
  rw [← E1]
  obtain ⟨u2, E2⟩ : ∃ u2, u2 = jp u1 41 H 43 (jf t 41 H 44) := ⟨_, rfl⟩
  obtain ⟨f2, p2, -⟩ := jpF E2
  rw [← E2]
  exact ⟨u2, rfl, ⟨by rw [f2 _ _ _ (by omega), p1], p2⟩, (tF.rfl.wr E1 (by omega)).wr E2 (by omega)⟩
theorem mv_no (h0 : jf t 41 H 42 = 0) (h1 : jf t 41 H 28 = 300) : ∃ r, m_X37_move t H p o d y = some (r, 0) ∧ fN H 18 t r ∧ tF H t r := by
  obtain ⟨r, e1, e2, e3⟩ := fail_n (o := 18) h0
  refine ⟨r, ?_, e2, e3⟩
  rw [em_X37_move]; unfold dm_X37_move
  rw [if_pos h1, e1, Option.bind_some, Wz_0]
/-- the relocation of two words that belong together, and perhaps one more -/
abbrev wmF (H : Int) (t : jS) : Prop := jf t 41 H 28 = 300 ∨ ¬ jf t 41 H 36 = 0 ∧ jf t 41 H 28 = 299
theorem wm_19 : m_X37_wordMove t H p 19 d y = (m_X37_move t H p 19 d y).bind fun q1 => if q1.2 = 0 then some (q1.1, Wz 0) else if (jf q1.1 41 H 36) = 0 then some (q1.1, Wz 1) else (m_X37_move q1.1 H p 51 (-1) 0).bind fun q2 => if q2.2 = 0 then some (q2.1, Wz 0) else some (q2.1, Wz 1) := by
  rw [em_X37_wordMove]; unfold dm_X37_wordMove
  rw [if_pos rfl, eu_X37_wordMove_18]; unfold du_X37_wordMove_18
  rw [eu_X37_wordMove_23]; unfold du_X37_wordMove_23
  simp only [if_neg n10]
theorem wm_is (h0 : 0 ≤ jf t 41 H 28) (h1 : jf t 41 H 28 ≤ 300) (hf : ¬ wmF H t) : ∃ P, cmQ H P ∧ ∀ t', jf t' 41 H 28 = jf t 41 H 28 → jf t' 41 H 36 = jf t 41 H 36 → jf t' 41 H 34 = jf t 41 H 34 → m_X37_wordMove t' H p 19 d y = some (P t', 1) := by
  by_cases c36 : jf t 41 H 36 = 0
  · refine ⟨_, pMv.cm (H := H) (n := jf t 41 H 28) (c := jf t 41 H 34) (p := p) (o := 19) (d := d) (y := y), fun t' q1 q2 q3 => ?_⟩
    rw [wm_19, mv_is (by omega) (by omega), Option.bind_some, q1, q3]
    dsimp only
    rw [if_neg n10, pMv.cm.1 _ _ _ _ (by omega), q2, if_pos c36, Wz_1]
  · refine ⟨_, (pMv.cm (H := H) (n := jf t 41 H 28) (c := jf t 41 H 34) (p := p) (o := 19) (d := d) (y := y)).comp (pMv.cm (H := H) (n := jf t 41 H 28 + 1) (c := jf t 41 H 34) (p := p) (o := 51) (d := -1) (y := 0)), fun t' q1 q2 q3 => ?_⟩
    have e28 : jf (pMv H (jf t 41 H 28) (jf t 41 H 34) p 19 d y t') 41 H 28 = jf t 41 H 28 + 1 := by
      unfold pMv; rw [jf_jp, if_pos ⟨rfl, rfl, rfl⟩]
    rw [wm_19, mv_is (by omega) (by omega), Option.bind_some, q1, q3]
    dsimp only
    rw [if_neg n10, pMv.cm.1 _ _ _ _ (by omega), q2, if_neg c36, mv_is (by rw [e28]; omega) (by rw [e28]; omega), e28, pMv.cm.1 _ _ _ _ (by omega), q3, Option.bind_some]
    dsimp only
    rw [if_neg n10, Wz_1]
theorem wm_no (h0 : 0 ≤ jf t 41 H 28) (h1 : jf t 41 H 28 ≤ 300) (hf : wmF H t) (h42 : jf t 41 H 42 = 0) : ∃ r, m_X37_wordMove t H p 19 d y = some (r, 0) ∧ fN H 18 t r ∧ tF H t r := by
  by_cases c : jf t 41 H 28 = 300
  · obtain ⟨r, e1, e2, e3⟩ := mv_no (p := p) (o := 19) (d := d) (y := y) h42 c
    refine ⟨r, ?_, e2, e3⟩
    rw [wm_19, e1, Option.bind_some, if_pos rfl, Wz_0]
  · have hf := hf.resolve_left c
    have e28 : jf (pMv H (jf t 41 H 28) (jf t 41 H 34) p 19 d y t) 41 H 28 = 300 := by
      unfold pMv; rw [jf_jp, if_pos ⟨rfl, rfl, rfl⟩]; omega
    have fr := (pMv.cm (H := H) (n := jf t 41 H 28) (c := jf t 41 H 34) (p := p) (o := 19) (d := d) (y := y)).1 t
    obtain ⟨r, e1, e2, e3⟩ := mv_no (p := p) (o := 51) (d := -1) (y := 0) (by rw [fr _ _ _ (by omega)]; exact h42) e28
    refine ⟨r, ?_, ⟨e2.1, by rw [e2.2, fr _ _ _ (by omega)]⟩, pMv.cm.tF.trans e3⟩
    rw [wm_19, mv_is (by omega) (by omega), Option.bind_some]
    dsimp only
    rw [if_neg n10, fr _ _ _ (by omega), if_neg hf.1, e1, Option.bind_some, if_pos rfl, Wz_0]
def cmM (P : jS → jS) (x : Option (jS × Int)) : Option (jS × Int) := x.bind fun q => some (P q.1, q.2)
theorem cm_fail (h : cmQ H P) : m_X37_fail (P t) H o = cmM P (m_X37_fail t H o) := by
  obtain ⟨h1, h2, -⟩ := h
  rw [em_X37_fail]; unfold dm_X37_fail cmM
  rw [em_X37_fail_2]; unfold dm_X37_fail_2
  simp only [jls]
  rw [h1 _ _ _ _ (by omega), h1 _ _ _ _ (by omega)]
  by_cases c : jf t 41 H 42 = 0
  · rw [if_pos c, if_pos c, h2 _ _ _ _ _ (by omega), h2 _ _ _ _ _ (by omega)]; rfl
  · rw [if_neg c, if_neg c]; rfl
theorem cm_byte (h : cmQ H P) (h34 : jf t 41 H 34 = 0) (h0 : 0 ≤ jf t 1000 (H + 153) 0) : m_X37_putByte (P t) H x = cmM P (m_X37_putByte t H x) := by
  obtain ⟨h1, h2, h3⟩ := id h
  rw [em_X37_putByte]; unfold dm_X37_putByte
  rw [h1 _ _ _ _ (by omega), h34, jlt_in (by omega) (by omega), jlt_in (by omega) (by omega), Option.bind_some, Option.bind_some, if_neg (by decide), if_neg (by decide), h1 _ _ _ _ (by omega), eu_X37_putByte_26]; unfold du_X37_putByte_26
  by_cases c : jf t 1000 (H + 153) 0 = 2048
  · rw [if_pos c, if_pos c, cm_fail h]; unfold cmM
    cases m_X37_fail t H 18 <;> rfl
  rw [if_neg c, if_neg c, h1 _ _ _ _ (by omega), h34, if_pos (by decide), if_pos (by decide), jlt_in (by omega) (by omega), jlt_in (by omega) (by omega), Option.bind_some, Option.bind_some, h1 _ _ _ _ (by omega)]
  unfold jst
  generalize W32 (W32 (2048 * 0) + jf t 1000 (H + 153) 0) = ix
  by_cases c2 : 0 ≤ ix ∧ ix < 6144
  rotate_left
  · rw [if_neg c2, if_neg c2]; rfl
  rw [if_pos c2, if_pos c2, Option.bind_some, Option.bind_some, h2 _ _ _ _ _ (by omega), eu_X37_putByte_72]; unfold du_X37_putByte_72
  rw [h1 _ _ _ _ (by omega), jf_neg (by omega), h34, jlt_in (by omega) (by omega), jlt_in (by omega) (by omega), Option.bind_some, Option.bind_some, h1 _ _ _ _ (by omega), jst_in (by omega) (by omega), jst_in (by omega) (by omega), Option.bind_some, Option.bind_some, h2 _ _ _ _ _ (by omega)]; rfl
/-- a byte put: what the twin's state becomes -/
theorem y_byte1 (h34 : jf t 41 H 34 = 0) (h0 : 0 ≤ jf t 1000 (H + 153) 0 ∧ jf t 1000 (H + 153) 0 ≤ 2048) (h42 : jf t 41 H 42 = 0) : (∃ r, m_X37_putByte t H x = some (r, 0) ∧ fN H 18 t r) ∨ ∃ w, m_X37_putByte t H x = some (w, 1) ∧ (∀ c a j, ¬ (c = 1000 ∧ (a = H + 152 ∨ a = H + 153)) → jf w c a j = jf t c a j) ∧ (0 ≤ jf w 1000 (H + 153) 0 ∧ jf w 1000 (H + 153) 0 ≤ 2048) := by
  rw [em_X37_putByte]; unfold dm_X37_putByte
  rw [h34, jlt_in (by omega) (by omega), Option.bind_some, if_neg (by decide), eu_X37_putByte_26]; unfold du_X37_putByte_26
  by_cases c : jf t 1000 (H + 153) 0 = 2048
  · obtain ⟨r, e1, e2, -⟩ := fail_n (o := 18) h42
    rw [if_pos c, e1, Option.bind_some, Wz_0]
    exact .inl ⟨r, rfl, e2⟩
  rw [if_neg c, h34, if_pos (by decide), jlt_in (by omega) (by omega), Option.bind_some, W32_in (z := 2048 * 0) (by omega) (by omega), W32_in (by omega) (by omega), jst_in (by omega) (by omega), Option.bind_some, eu_X37_putByte_72]; unfold du_X37_putByte_72
  rw [jf_neg (by omega), h34, jlt_in (by omega) (by omega), Option.bind_some, jst_in (by omega) (by omega), Option.bind_some, Wz_1, jf_neg (by omega), W32_in (by omega) (by omega)]
  refine .inr ⟨_, rfl, fun c a j z => by rw [jf_neg (by omega), jf_neg (by omega)], ?_⟩
  rw [jf_jp, if_pos ⟨rfl, rfl, rfl⟩]
  omega
theorem cm_bytes (h : cmQ H P) : ∀ (m : Nat) (t : jS) (i : Int), jf t 41 H 34 = 0 → 0 ≤ jf t 1000 (H + 153) 0 ∧ jf t 1000 (H + 153) 0 ≤ 2048 → jf t 41 H 42 = 0 → 0 ≤ i → i + m = n → n ≤ 8 → u_X37_putBytes_5 (P t) H x n 1 i = cmM P (u_X37_putBytes_5 t H x n 1 i) ∧ ∀ r, u_X37_putBytes_5 t H x n 1 i = some (r, 0) → fN H 18 t r
  | 0, t, i, h34, hs, h42, i0, hi, n8 => by
    have e : ∀ s : jS, u_X37_putBytes_5 s H x n 1 i = some (s, 1) := fun s => by
      rw [eu_X37_putBytes_5]; unfold du_X37_putBytes_5
      refine jlpW_r (r := some (s, 1)) ?_
      show b_X37_putBytes_5 s H x n 1 i = _
      unfold b_X37_putBytes_5
      rw [if_neg (by omega), Wz_1]
    rw [e, e]
    exact ⟨rfl, fun r q => by have := congrArg Prod.snd (Option.some.inj q); dsimp only at this; omega⟩
  | m + 1, t, i, h34, hs, h42, i0, hi, n8 => by
    have e : ∀ s : jS, u_X37_putBytes_5 s H x n 1 i = (m_X37_putByte s H (I_shr x (W32 (8 * i)))).bind fun q1 => u_X37_putBytes_5 q1.1 H x n q1.2 (i + 1) := fun s => by
      rw [eu_X37_putBytes_5]; unfold du_X37_putBytes_5
      rw [jlpW_stc]
      show (b_X37_putBytes_5 s H x n 1 i).bind _ = _
      have : b_X37_putBytes_5 s H x n 1 i = (m_X37_putByte s H (I_shr x (W32 (8 * i)))).bind fun q1 => some (.inl (q1.1, [H, x, n, q1.2, i + 1])) := by
        unfold b_X37_putBytes_5
        rw [if_pos (by omega), if_neg n10, W32_in (z := i + 1) (by omega) (by omega)]
      rw [this, Option.bind_assoc]; rfl
    have e0 : ∀ s : jS, u_X37_putBytes_5 s H x n 0 (i + 1) = some (s, 0) := fun s => by
      rw [eu_X37_putBytes_5]; unfold du_X37_putBytes_5
      refine jlpW_r (r := some (s, 0)) ?_
      show b_X37_putBytes_5 s H x n 0 (i + 1) = _
      unfold b_X37_putBytes_5
      rw [Wz_0]
      by_cases c : i + 1 < n
      · rw [if_pos c, if_pos rfl]
      · rw [if_neg c]
    rw [e, e, cm_byte h h34 hs.1]
    rcases y_byte1 (x := I_shr x (W32 (8 * i))) h34 hs h42 with ⟨r, d1, d2⟩ | ⟨w, d1, d2, d3⟩
    · rw [d1]
      unfold cmM
      rw [Option.bind_some, Option.bind_some, Option.bind_some]
      dsimp only
      rw [e0, e0]
      refine ⟨rfl, fun r' q => ?_⟩
      have := congrArg Prod.fst (Option.some.inj q)
      dsimp only at this
      rw [← this]; exact d2
    · have ih := cm_bytes h m w (i + 1) (by rw [d2 _ _ _ (by omega)]; exact h34) d3 (by rw [d2 _ _ _ (by omega)]; exact h42) (by omega) (by omega) n8
      rw [d1]
      refine ⟨?_, fun r q => ?_⟩
      · show (some (P w, (1 : Int))).bind _ = _
        rw [Option.bind_some, Option.bind_some]
        exact ih.1
      · rw [Option.bind_some] at q
        have := ih.2 r q
        exact ⟨this.1, by rw [this.2, d2 _ _ _ (by omega)]⟩
/-- a relocation, then a word; or a word, then the relocation -/
theorem com2 {F : jS × Bool × Int → Option (jS × Bool × Int)} (h : AG s t A H b lo NL I OL SL k z) (h34 : jf t 41 H 34 = 0) (p0 : 0 ≤ p ∧ p ≤ 4096) (d0 : -1 ≤ d ∧ d < 100) (hx : jin y) (hF : ∀ u d, F (u, true, d) = some (u, true, d))
    (hF2 : ∀ u w d, AG u w A H b lo NL I OL SL k z → mvQ A H s t u w → F (u, false, d) = (m_X33_putNumber u A x 4).bind fun q => jth q.2.1 (some (q.1, true, q.2.2)) (some (q.1, false, 0))) :
    stO s t A H b lo NL I OL SL k z ((m_X33_move s A 19 p d y).bind F) ((m_X37_putBytes t H x 4).bind fun q2 => if q2.2 = 0 then some (q2.1, Wz 0) else (m_X37_wordMove q2.1 H p 19 d y).bind fun q3 => if q3.2 = 0 then some (q3.1, Wz 0) else some (q3.1, Wz 1)) fun u w _ => emQ A H 0 s t u w := by
  obtain ⟨aS, aT, aI, aB, aM, aSt, aK, aH, a0⟩ := h.1.2.2.2.1
  have hsz : 0 ≤ jf t 1000 (H + 153) 0 ∧ jf t 1000 (H + 153) 0 ≤ 2048 := (aB.2.1 0 (by omega) (by omega)).2.1
  have hm := aM.1.2
  have pb : ∀ {P}, cmQ H P → m_X37_putBytes (P t) H x 4 = cmM P (m_X37_putBytes t H x 4) ∧ ∀ r, m_X37_putBytes t H x 4 = some (r, 0) → fN H 18 t r := fun hP => by
    rw [em_X37_putBytes]; unfold dm_X37_putBytes
    exact cm_bytes hP 4 t 0 h34 hsz a0 (by decide) (by decide) (by decide)
  have pn := putNum2 (x := x) h (n := 4) (by omega) (by decide) (by decide)
  by_cases hf : wmF H t
  · obtain ⟨r, e1, e2, e3⟩ := wm_no (p := p) (d := d) (y := y) hm.1 hm.2 hf a0
    rcases wmove2 (o := 19) h p0 (by decide) d0 hx with ⟨q, r', d1, d2, d3⟩ | ⟨u', w', v', d1, d2, d3⟩
    rotate_left
    · rw [e1] at d2
      have := congrArg Prod.snd (Option.some.inj d2)
      dsimp only at this; omega
    rw [e1] at d2
    have er : r = r' := congrArg Prod.fst (Option.some.inj d2)
    subst er
    have hq := d3.th
    obtain ⟨f, g, g1, g2, g3, g4, g5, g6, g7⟩ := d3
    have g18 : f = 18 ∧ g = jf t 41 H 44 := ⟨by rw [← g5.1, e2.1], by rw [← g5.2, e2.2]⟩
    left
    have c1 : (m_X33_move s A 19 p d y).bind F = some q := by rw [d1, Option.bind_some, hq]; exact hF _ _
    rcases pn with ⟨q', r2, b1, b2, b3⟩ | ⟨u', w2, v', b1, b2, b3, b4, b5, b6⟩
    · have n2 := (pb (P := fun s => s) ⟨fun _ _ _ _ _ => rfl, fun _ _ _ _ _ _ => rfl, fun _ => jSm.rfl⟩).2 r2 b2
      refine ⟨q, r2, c1, by rw [b2, Option.bind_some, if_pos rfl, Wz_0], ?_⟩
      obtain ⟨f', g', -, -, -, -, -, -, j7⟩ := b3
      exact ⟨f, g, g1, g2, g3, g4, ⟨by rw [n2.1]; omega, by rw [n2.2]; omega⟩, g6, j7⟩
    · have fr := b6.2.1
      obtain ⟨r3, i1, i2, i3⟩ := wm_no (t := w2) (p := p) (d := d) (y := y) (by rw [fr _ _ _ (by omega)]; exact hm.1) (by rw [fr _ _ _ (by omega)]; exact hm.2) (by unfold wmF; rw [fr _ _ _ (by omega), fr _ _ _ (by omega)]; exact hf) (by rw [fr _ _ _ (by omega)]; exact a0)
      refine ⟨q, r3, c1, ?_, ?_⟩
      · rw [b2, Option.bind_some]
        dsimp only
        rw [if_neg n10, i1, Option.bind_some, if_pos rfl, Wz_0]
      · have e44 : jf w2 41 H 44 = jf t 41 H 44 := fr _ _ _ (by omega)
        exact ⟨f, g, g1, g2, g3, g4, ⟨by rw [i2.1]; omega, by rw [i2.2, e44]; omega⟩, g6, b5.trans i3⟩
  obtain ⟨P, hP, eP⟩ := wm_is (p := p) (d := d) (y := y) hm.1 hm.2 hf
  have ew := eP t rfl rfl rfl
  obtain ⟨pb1, pb2⟩ := pb hP
  rcases wmove2 (o := 19) h p0 (by decide) d0 hx with ⟨q, r', d1, d2, d3⟩ | ⟨u2, w', v', d1, d2, d3, d4, d5, d6⟩
  · rw [ew] at d2
    have := congrArg Prod.snd (Option.some.inj d2)
    dsimp only at this; omega
  rw [ew] at d2
  have er : P t = w' := congrArg Prod.fst (Option.some.inj d2)
  subst er
  rw [d1, Option.bind_some, hF2 u2 _ v' d3 d6]
  have pn2 := putNum2 (x := x) d3 (n := 4) (by rw [hP.1 _ _ _ _ (by omega)]; omega) (by decide) (by decide)
  rw [pb1] at pn2
  rcases pn with ⟨q', r2, b1, b2, b3⟩ | ⟨u', w2, v2, b1, b2, b3, b4, b5, b6⟩
  · rw [b2] at pn2 ⊢
    rcases pn2 with ⟨q, r3, i1, i2, i3⟩ | ⟨u', w3, v3, i1, i2, i3⟩
    rotate_left
    · have := congrArg Prod.snd (Option.some.inj i2)
      dsimp only at this; omega
    have e3 : P r2 = r3 := congrArg Prod.fst (Option.some.inj i2)
    subst e3
    left
    refine ⟨q, r2, by rw [i1, Option.bind_some, i3.th]; rfl, by rw [Option.bind_some, if_pos rfl, Wz_0], ?_⟩
    obtain ⟨f, g, g1, g2, g3, g4, g5, g6, g7⟩ := i3
    obtain ⟨f', g', -, -, -, -, -, -, j7⟩ := b3
    exact ⟨f, g, g1, g2, g3, g4, ⟨by rw [← g5.1, hP.1 _ _ _ _ (by omega)], by rw [← g5.2, hP.1 _ _ _ _ (by omega)]⟩, (d4.trans g6 : cFa A s q.1 (0 + 1) (0 + 6)), j7⟩
  · rw [b2] at pn2 ⊢
    rcases pn2 with ⟨q, r3, i1, i2, i3⟩ | ⟨u3, w3, v3, i1, i2, i3, i4, i5, i6⟩
    · have := congrArg Prod.snd (Option.some.inj i2)
      dsimp only at this; omega
    have e3 : P w2 = w3 := congrArg Prod.fst (Option.some.inj i2)
    subst e3
    have fr := b6.2.1
    rw [Option.bind_some]
    dsimp only
    rw [if_neg n10, eP w2 (fr _ _ _ (by omega)) (fr _ _ _ (by omega)) (fr _ _ _ (by omega)), Option.bind_some, i1, Option.bind_some]
    dsimp only
    rw [jth_ff, if_neg n10, Wz_1]
    exact .inr ⟨u3, P w2, 0, rfl, rfl, i3, d4.tr0 i4, d5.trans i5, d6.em.trans i6.em⟩
end jCalls
