/-! the object comes to be written: all of it, both sides *-/
set_option maxRecDepth 100000
section jFin2
variable {s t u w s0 t0 : jS} {v A H b lo k c a x y n j m i O X Y z T P Q N f : Int} {o o' : Int → Int → Int → Int} {d : Int → Int} {l : List Int} {NL : List (List Int)} {I : pI} {OL : List pvO} {SL : List pvS}
abbrev rgM (O : Int) : Int → Prop := fun z => O ≤ z ∧ z < O + 1858
theorem rgM.tr (h : jGw s t P Q (rgM O)) (g : jFx t u O 1858) : jGw s u P Q (rgM O) := (h.trans g.gwR fun _ _ z => z.elim id id : jGw s u (P + 0) (Q + 0) (rgM O)).mono (by omega) (by omega) fun _ _ z => z
theorem fin_starts (hA : A = O + 3872) (hX : X = H + 25) (h : LI s0 t0 A H b lo NL I OL SL n) : ∀ (m : Nat) (u w : jS) (o : Int → Int → Int → Int) (k : Int), jGw s0 u 0 0 (rgM O) → tMf t0 w X → cMk u O o d → tMk w X o d → 0 ≤ k → k + m = jf t0 41 H 26 → ∃ u' w' o', u_X33_finish_104 u A k = u_X33_finish_132 u' A ∧ u_X37_makeObject_102 w H k = u_X37_makeObject_130 w' H ∧ jGw s0 u' 0 0 (rgM O) ∧ tMf t0 w' X ∧ cMk u' O o' d ∧ tMk w' X o' d
  | 0, u, w, o, k, gc, gt, hc, ht, k0, hk => by
    obtain ⟨⟨a1, a2⟩, a3⟩ := h.2.2.2.1.2.2.2.2.2.1
    have bd := h.1.2.2.2.1
    refine ⟨u, w, o, ?_, ?_, gc, gt, hc, ht⟩
    · rw [eu_X33_finish_104]; unfold du_X33_finish_104
      refine jlpW_r (r := u_X33_finish_132 u A) ?_
      show b_X33_finish_104 u A k = _
      unfold b_X33_finish_104
      rw [gc.2.2 _ _ _ (by omega) (by unfold rgM; omega), a1, if_neg (by omega)]
    · rw [eu_X37_makeObject_102]; unfold du_X37_makeObject_102
      refine jlpW_r (r := u_X37_makeObject_130 w H) ?_
      show b_X37_makeObject_102 w H k = _
      unfold b_X37_makeObject_102
      rw [gt.2 _ _ _ (by omega), if_neg (by omega)]
  | m + 1, u, w, o, k, gc, gt, hc, ht, k0, hk => by
    obtain ⟨⟨a1, a2⟩, a3⟩ := h.2.2.2.1.2.2.2.2.2.1
    have bd := h.1.2.2.2.1
    have s400 := h.s400
    have n2 := h.2.2.2.2.1.2.1
    have n3 := h.2.2.2.2.2
    obtain ⟨b1, b2, b3⟩ := a3 k k0 (by omega)
    obtain ⟨r, q, o1, e1, e2, e3, e4, e5, e6⟩ := mk_start (x := jf t0 1000 (H + 155) k) hc ht ⟨by omega, by omega⟩
    have st1 : jc2 b_X33_finish_104 [A, k] u = some (.inl (r.1, [A, k + 1])) := by
      show b_X33_finish_104 u A k = _
      unfold b_X33_finish_104
      rw [gc.2.2 _ _ _ (by omega) (by unfold rgM; omega), a1, if_pos (by omega), jlt_in k0 (by omega), Option.bind_some, gc.2.2 _ _ _ (by omega) (by unfold rgM; omega), b1, show A + -3872 = O by omega, e1, Option.bind_some, W32_in (by omega) (by omega)]
    have st2 : jc2 b_X37_makeObject_102 [H, k] w = some (.inl (q.1, [H, k + 1])) := by
      show b_X37_makeObject_102 w H k = _
      unfold b_X37_makeObject_102
      rw [gt.2 _ _ _ (by omega), if_pos (by omega), jlt_in k0 (by omega), Option.bind_some, gt.2 _ _ _ (by omega), ← hX, e2, Option.bind_some, W32_in (by omega) (by omega)]
    obtain ⟨u', w', o', i1, i2, i3⟩ := fin_starts hA hX h m r.1 q.1 o1 (k + 1) (rgM.tr gc e5) (gt.trans e6) e3 e4 (by omega) (by omega)
    refine ⟨u', w', o', ?_, ?_, i3⟩
    · rw [eu_X33_finish_104] at i1 ⊢; unfold du_X33_finish_104 at i1 ⊢
      rw [jlpW_l st1]; exact i1
    · rw [eu_X37_makeObject_102] at i2 ⊢; unfold du_X37_makeObject_102 at i2 ⊢
      rw [jlpW_l st2]; exact i2
theorem fin_rels (hA : A = O + 3872) (hX : X = H + 25) (h : LI s0 t0 A H b lo NL I OL SL n) : ∀ (m : Nat) (u w : jS) (o : Int → Int → Int → Int) (k : Int), jGw s0 u P Q (rgM O) → tMf t0 w X → cMk u O o d → tMk w X o d → 0 ≤ k → k + m = jf t0 41 H 28 → ∃ u' w' o', u_X33_finish_187 u A k = some (u', 0) ∧ u_X37_makeObject_235 w H k = some (w', 0) ∧ jGw s0 u' P Q (rgM O) ∧ tMf t0 w' X ∧ cMk u' O o' d ∧ tMk w' X o' d
  | 0, u, w, o, k, gc, gt, hc, ht, k0, hk => by
    obtain ⟨⟨a1, a2⟩, a3⟩ := h.2.2.2.1.2.2.2.2.1
    have bd := h.1.2.2.2.1
    refine ⟨u, w, o, ?_, ?_, gc, gt, hc, ht⟩
    · rw [eu_X33_finish_187]; unfold du_X33_finish_187
      refine jlpW_r (r := some (u, 0)) ?_
      show b_X33_finish_187 u A k = _
      unfold b_X33_finish_187
      rw [gc.2.2 _ _ _ (by omega) (by unfold rgM; omega), a1, if_neg (by omega)]
    · rw [eu_X37_makeObject_235]; unfold du_X37_makeObject_235
      refine jlpW_r (r := some (w, 0)) ?_
      show b_X37_makeObject_235 w H k = _
      unfold b_X37_makeObject_235
      rw [gt.2 _ _ _ (by omega), if_neg (by omega)]
  | m + 1, u, w, o, k, gc, gt, hc, ht, k0, hk => by
    obtain ⟨⟨a1, a2⟩, a3⟩ := h.2.2.2.1.2.2.2.2.1
    have bd := h.1.2.2.2.1
    obtain ⟨b1, b2, b3, b4, b5, b6, b7, b8, b9, b10⟩ := a3 k k0 (by omega)
    obtain ⟨r, q, o1, e1, e2, e3, e4, e5, e6⟩ := mk_reloc (x := jf t0 1000 (H + 156) k) (at' := jf t0 1000 (H + 157) k) (k := jf t0 1000 (H + 158) k) (y := jf t0 1000 (H + 159) k) (a := jf t0 1000 (H + 160) k) hc ht ⟨by omega, by omega⟩ b10
    have gF : ∀ c a i, (a < O ∨ O + 1858 ≤ a) → a < jn s0 → jf u c a i = jf s0 c a i := fun c a i q q' => gc.2.2 _ _ _ q' (by unfold rgM; omega)
    have st1 : jc2 b_X33_finish_187 [A, k] u = some (.inl (r.1, [A, k + 1])) := by
      show b_X33_finish_187 u A k = _
      unfold b_X33_finish_187
      rw [gF 37 A 28 (by omega) (by omega), a1, if_pos (by omega), jlt_in k0 (by omega), Option.bind_some, jlt_in k0 (by omega), Option.bind_some, jlt_in k0 (by omega), Option.bind_some, jlt_in k0 (by omega), Option.bind_some, jlt_in k0 (by omega), Option.bind_some, gF _ _ _ (by omega) (by omega), gF _ _ _ (by omega) (by omega), gF _ _ _ (by omega) (by omega), gF _ _ _ (by omega) (by omega), gF _ _ _ (by omega) (by omega), b1, b2, b3, b4, b5, show A + -3872 = O by omega, e1, Option.bind_some, W32_in (by omega) (by omega)]
    have st2 : jc2 b_X37_makeObject_235 [H, k] w = some (.inl (q.1, [H, k + 1])) := by
      show b_X37_makeObject_235 w H k = _
      unfold b_X37_makeObject_235
      rw [gt.2 _ _ _ (by omega), if_pos (by omega), jlt_in k0 (by omega), Option.bind_some, jlt_in k0 (by omega), Option.bind_some, jlt_in k0 (by omega), Option.bind_some, jlt_in k0 (by omega), Option.bind_some, jlt_in k0 (by omega), Option.bind_some, gt.2 _ _ _ (by omega), gt.2 _ _ _ (by omega), gt.2 _ _ _ (by omega), gt.2 _ _ _ (by omega), gt.2 _ _ _ (by omega), ← hX, e2, Option.bind_some, W32_in (by omega) (by omega)]
    obtain ⟨u', w', o', i1, i2, i3⟩ := fin_rels hA hX h m r.1 q.1 o1 (k + 1) (rgM.tr gc e5) (gt.trans e6) e3 e4 (by omega) (by omega)
    refine ⟨u', w', o', ?_, ?_, i3⟩
    · rw [eu_X33_finish_187] at i1 ⊢; unfold du_X33_finish_187 at i1 ⊢
      rw [jlpW_l st1]; exact i1
    · rw [eu_X37_makeObject_235] at i2 ⊢; unfold du_X37_makeObject_235 at i2 ⊢
      rw [jlpW_l st2]; exact i2
theorem fin_syms (hA : A = O + 3872) (hX : X = H + 25) (h : LI s0 t0 A H b lo NL I OL SL n) (hm : mkH s0 O b lo) (hB : jBd s0 700 16000) (h38 : ∀ i, 0 ≤ i → i < 100 → jK s0 (A + 1 + 26 + 1 * i) = 38) : ∀ (m : Nat) (u w : jS) (o : Int → Int → Int → Int) (d : Int → Int) (k : Int), jGw s0 u (6 * k) (150 * k) (rgM O) → tMf t0 w X → cMk u O o d → tMk w X o d → 0 ≤ k → k + m = jf t0 41 H 12 → ∃ u' w' o' d', u_X33_finish_134 u A k = u_X33_finish_185 u' A ∧ u_X37_makeObject_132 w H k = u_X37_makeObject_233 w' H ∧ jGw s0 u' 600 15000 (rgM O) ∧ tMf t0 w' X ∧ cMk u' O o' d' ∧ tMk w' X o' d'
  | 0, u, w, o, d, k, gc, gt, hc, ht, k0, hk => by
    obtain ⟨a1, a2, a3, a4, a5⟩ := h.2.2.2.1.1
    have bd := h.1.2.2.2.1
    refine ⟨u, w, o, d, ?_, ?_, gc.mono (by omega) (by omega) fun _ _ z => z, gt, hc, ht⟩
    · rw [eu_X33_finish_134]; unfold du_X33_finish_134
      refine jlpW_r (r := u_X33_finish_185 u A) ?_
      show b_X33_finish_134 u A k = _
      unfold b_X33_finish_134
      rw [gc.2.2 _ _ _ (by omega) (by unfold rgM; omega), a1, if_neg (by omega)]
    · rw [eu_X37_makeObject_132]; unfold du_X37_makeObject_132
      refine jlpW_r (r := u_X37_makeObject_233 w H) ?_
      show b_X37_makeObject_132 w H k = _
      unfold b_X37_makeObject_132
      rw [gt.2 _ _ _ (by omega), if_neg (by omega)]
  | m + 1, u, w, o, d, k, gc, gt, hc, ht, k0, hk => by
    obtain ⟨a1, a2, a3, a4, a5⟩ := h.2.2.2.1.1
    have bd := h.1.2.2.2.1
    have gF : ∀ c a i, (a < O ∨ O + 1858 ≤ a) → a < jn s0 → jf u c a i = jf s0 c a i := fun c a i q q' => gc.2.2 _ _ _ q' (by unfold rgM; omega)
    obtain ⟨c1, c2, c3, c4, c5, c6, c7, c8, c9, c10, c11⟩ := a5 k k0 (by omega)
    have jnn := gc.1.1
    have hBu : jBd u 6 150 := by
      unfold jBd at hB ⊢
      obtain ⟨z1, z2, z3, z4, z5, z6⟩ := gc.1
      omega
    have hk2 := h.1.1.rg (T := A + (-3890)) hm ⟨by omega, by omega⟩ gc
    have hC : pCon u := h.1.2.2.1.keep gc fun z hz => by have := hm.1 z hz.1 hz.2; omega
    obtain ⟨u1, e1, e2, e3⟩ := c_spell (N := A + 1 + 26 + 1 * k) (f := jf s0 38 (A + 1 + 26 + 1 * k) 0) hA hC hBu hk2 h.1.2.2.2.2.2 (hm.gw gc) hc (by omega) ⟨by omega, by omega, by rw [gc.K (by omega)]; exact h38 k k0 (by omega), by omega⟩ (gF _ _ _ (by omega) (by omega)) c2.1 c2.2
    have hy : yBk w (H + 8) NL I OL SL := ⟨by rw [gt.2 _ _ _ (by omega)]; exact h.2.1.1.1, h.2.1.1.2.cg fun a j ha j0 j1 => gt.2 _ _ _ (by omega)⟩
    obtain ⟨w1, d1, d2, d3⟩ := t_spell (f := jf s0 38 (A + 1 + 26 + 1 * k) 0) hX hy h.1.2.2.2.2.2 ht c2.1 c2.2
    have g1 : jGw s0 u1 (6 * k + 6) (150 * k + 150) (rgM O) := gc.trans e3 fun _ _ z => z.elim id id
    have gF1 : ∀ c a i, (a < O ∨ O + 1858 ≤ a) → a < jn s0 → jf u1 c a i = jf s0 c a i := fun c a i q q' => g1.2.2 _ _ _ q' (by unfold rgM; omega)
    have gt1 := gt.trans d3
    -- how the symbol is bound
    obtain ⟨hw, ehw⟩ : ∃ hw, hw = if jf s0 38 (A + 1 + 26 + 1 * k) 5 = 0 then if jf s0 38 (A + 1 + 26 + 1 * k) 4 = 0 then if jf s0 38 (A + 1 + 26 + 1 * k) 1 = -1 then (1 : Int) else 0 else 1 else 2 := ⟨_, rfl⟩
    have eb : m_X34_bind u1 (A + 1 + 26 + 1 * k) = some hw := by
      rw [em_X34_bind]; unfold dm_X34_bind
      rw [gF1 _ _ _ (by omega) (by omega), gF1 _ _ _ (by omega) (by omega), gF1 _ _ _ (by omega) (by omega), ehw]
      split
      · split
        · split <;> rfl
        · rfl
      · rfl
    obtain ⟨r, q, o1, i1, i2, i3, i4, i5, i6⟩ := mk_symbol (a := jf s0 38 (A + 1 + 26 + 1 * k) 1) (v := jf s0 38 (A + 1 + 26 + 1 * k) 2) (z := jf s0 38 (A + 1 + 26 + 1 * k) 3) (how := hw) (ty := 0) e2 d2 c6 ⟨by omega, by omega⟩
    have st1 : jc2 b_X33_finish_134 [A, k] u = some (.inl (r.1, [A, k + 1])) := by
      show b_X33_finish_134 u A k = _
      unfold b_X33_finish_134
      rw [gF 37 A 25 (by omega) (by omega), a1, if_pos (by omega), jix_in k0 (by omega), Option.bind_some, e1, Option.bind_some]
      dsimp only
      rw [eb, Option.bind_some, gF1 _ _ _ (by omega) (by omega), gF1 _ _ _ (by omega) (by omega), gF1 _ _ _ (by omega) (by omega), show A + -3872 = O by omega, i1, Option.bind_some, W32_in (by omega) (by omega)]
    have R : ∀ a, H + 143 ≤ a → a ≤ H + 147 → jf w1 1000 a k = jf t0 1000 a k := fun a q q' => gt1.2 _ _ _ (by omega)
    have st2 : jc2 b_X37_makeObject_132 [H, k] w = some (.inl (q.1, [H, k + 1])) := by
      show b_X37_makeObject_132 w H k = _
      unfold b_X37_makeObject_132
      rw [gt.2 _ _ _ (by omega), if_pos (by omega), jlt_in k0 (by omega), Option.bind_some, gt.2 _ _ _ (by omega), c1]
      have en : (if 0 ≤ jf s0 38 (A + 1 + 26 + 1 * k) 0 then jf s0 38 (A + 1 + 26 + 1 * k) 0 else jf s0 38 (A + 1 + 26 + 1 * k) 0 - 1) = nSyh (jf s0 38 (A + 1 + 26 + 1 * k) 0) := rfl
      rw [en, d1, Option.bind_some]
      dsimp only
      have e209 : ∀ a h, u_X37_makeObject_209 w1 H k h a (H + 25) = (m_X40_symbol w1 X a (jf s0 38 (A + 1 + 26 + 1 * k) 2) (jf s0 38 (A + 1 + 26 + 1 * k) 3) h 0).bind fun q3 => some (.inl (q3.1, [H, k + 1])) := fun a h => by
        rw [eu_X37_makeObject_209]; unfold du_X37_makeObject_209
        rw [jlt_in k0 (by omega), Option.bind_some, jlt_in k0 (by omega), Option.bind_some, R _ (by omega) (by omega), R _ (by omega) (by omega), c5, c7, ← hX, W32_in (by omega) (by omega)]
      have e190 : ∀ y h, u_X37_makeObject_190 w1 H k y h = if y = 0 then u_X37_makeObject_209 w1 H k h (jf t0 1000 (H + 144) k) (H + 25) else u_X37_makeObject_209 w1 H k h (-1) (H + 25) := fun y h => by
        rw [eu_X37_makeObject_190]; unfold du_X37_makeObject_190
        rw [jlt_in k0 (by omega), Option.bind_some, R _ (by omega) (by omega)]
      have e184 : ∀ y, u_X37_makeObject_184 w1 H k y = u_X37_makeObject_190 w1 H k y (jf t0 1000 (H + 147) k) := fun y => by
        rw [eu_X37_makeObject_184]; unfold du_X37_makeObject_184
        rw [jlt_in k0 (by omega), Option.bind_some, R _ (by omega) (by omega)]
      have e166 : ∀ y, u_X37_makeObject_166 w1 H k y = if y = 0 then u_X37_makeObject_190 w1 H k y (jf t0 1000 (H + 147) k) else if jf t0 1000 (H + 147) k = 0 then u_X37_makeObject_190 w1 H k y 1 else u_X37_makeObject_190 w1 H k y (jf t0 1000 (H + 147) k) := fun y => by
        rw [eu_X37_makeObject_166]; unfold du_X37_makeObject_166
        rw [jlt_in k0 (by omega), Option.bind_some, R _ (by omega) (by omega), e184]
      rw [jlt_in k0 (by omega), Option.bind_some, R _ (by omega) (by omega), e166, e166, e190, e190, e190, e209, e209, e209, e209]
      have fin : (m_X40_symbol w1 X (jf s0 38 (A + 1 + 26 + 1 * k) 1) (jf s0 38 (A + 1 + 26 + 1 * k) 2) (jf s0 38 (A + 1 + 26 + 1 * k) 3) hw 0).bind (fun q3 => (some (.inl (q3.1, [H, k + 1])) : Option ((jS × List Int) ⊕ (jS × Int)))) = some (.inl (q.1, [H, k + 1])) := by rw [i2, Option.bind_some]
      by_cases cn : jf s0 38 (A + 1 + 26 + 1 * k) 1 = -1
      · have e144 : jf t0 1000 (H + 144) k = -2 := by rw [c3, if_pos cn]
        rw [if_pos e144, if_neg n10]
        simp only [if_neg n10]
        rw [cn] at fin
        rcases c10 with q5 | q5
        · rcases c9 with q4 | q4
          · have e147 : jf t0 1000 (H + 147) k = 0 := by rw [c11, if_neg (by omega), if_neg (by omega)]
            have ehw1 : hw = 1 := by rw [ehw, if_pos q5, if_pos q4, if_pos cn]
            rw [if_pos e147]; rw [ehw1] at fin; exact fin
          · have e147 : jf t0 1000 (H + 147) k = 1 := by rw [c11, if_neg (by omega), if_pos q4]
            have ehw1 : hw = 1 := by rw [ehw, if_pos q5, if_neg (by omega)]
            rw [e147, if_neg n10]; rw [ehw1] at fin; exact fin
        · have e147 : jf t0 1000 (H + 147) k = 2 := by rw [c11, if_pos q5]
          have ehw1 : hw = 2 := by rw [ehw, if_neg (by omega)]
          rw [e147, if_neg (by decide)]; rw [ehw1] at fin; exact fin
      · have e144 : jf t0 1000 (H + 144) k = jf s0 38 (A + 1 + 26 + 1 * k) 1 := by rw [c3, if_neg cn]
        have e147 : jf t0 1000 (H + 147) k = hw := by
          rw [c11, ehw]
          rcases c10 with q5 | q5
          · rcases c9 with q4 | q4
            · rw [if_neg (by omega), if_neg (by omega), if_pos q5, if_pos q4, if_neg cn]
            · rw [if_neg (by omega), if_pos q4, if_pos q5, if_neg (by omega)]
          · rw [if_pos q5, if_neg (by omega)]
        rw [if_neg (by omega), if_pos rfl]
        simp only [if_true]
        rw [e144, e147]; exact fin
    obtain ⟨u', w', o', d', j1, j2, j3⟩ := fin_syms hA hX h hm hB h38 m r.1 q.1 o1 dNew (k + 1) ((rgM.tr g1 i5).mono (by omega) (by omega) fun _ _ z => z) (gt1.trans i6) i3 i4 (by omega) (by omega)
    refine ⟨u', w', o', d', ?_, ?_, j3⟩
    · rw [eu_X33_finish_134] at j1 ⊢; unfold du_X33_finish_134 at j1 ⊢
      rw [jlpW_l st1]; exact j1
    · rw [eu_X37_makeObject_132] at j2 ⊢; unfold du_X37_makeObject_132 at j2 ⊢
      rw [jlpW_l st2]; exact j2
/-- the object that is written, both sides *-/
theorem finish2 (hA : A = O + 3872) (hX : X = H + 25) (h : LI s t A H b lo NL I OL SL n) (hm : mkH s O b lo) (hB : jBd s 700 16000) (h38 : ∀ i, 0 ≤ i → i < 100 → jK s (A + 1 + 26 + 1 * i) = 38) (hT : jTt s 33 O) (hL : cObL s (O + 1)) : ∃ u w o d, m_X33_finish s A = some (u, 0) ∧ m_X37_makeObject t H = some (w, 0) ∧ jGw s u 600 15000 (rgM O) ∧ tMf t w X ∧ cMk u O o d ∧ tMk w X o d := by
  obtain ⟨aS, aT, aI, aB, aM, aSt, aK, a0⟩ := h.2.2.2.1
  obtain ⟨b1, b2, b3⟩ := aB
  have hV : aVal s A (jf t 1000 (H + 153)) (fun x i => jf t 1000 (H + 152) (2048 * x + i)) (jf t 1000 (H + 154)) := ⟨fun x x0 x1 => b2 x x0 x1, fun x i x0 x1 i0 i1 => b3 x i x0 x1 i0 i1⟩
  have hW : yVal t H (jf t 1000 (H + 153)) (jf t 1000 (H + 154)) (fun x i => jf t 1000 (H + 152) (2048 * x + i)) := ⟨fun x x0 x1 => ⟨rfl, (b2 x x0 x1).2.1, rfl⟩, fun x i x0 x1 i0 i1 => rfl⟩
  obtain ⟨u1, o1, e1, e2, e3, e4⟩ := fin_full hA hV hT hL
  obtain ⟨w1, d1, d2, d3, q0, q1, q2⟩ := ym_full hX hW e3 e2.2.2.1
  have d3 : tMf t w1 X := .of d3 (tb_clear q0 q1 |>.trans fun k => ⟨q2.2 _ _ _ (by omega), q2.2 _ _ _ (by omega)⟩)
  rw [e1, d1, eu_X33_finish_102, eu_X37_makeObject_100]; unfold du_X33_finish_102 du_X37_makeObject_100
  have st0 := aSt.1
  obtain ⟨u2, w2, o2, i1, i2, i3, i4, i5, i6⟩ := fin_starts hA hX h (jf t 41 H 26).toNat u1 w1 o1 0 e4.gwR d3 e2 d2 (Int.le_refl _) (by omega)
  rw [i1, i2, eu_X33_finish_132, eu_X37_makeObject_130]; unfold du_X33_finish_132 du_X37_makeObject_130
  have sy0 := aS.2.1
  obtain ⟨u3, w3, o3, d4, j1, j2, j3, j4, j5, j6⟩ := fin_syms hA hX h hm hB h38 (jf t 41 H 12).toNat u2 w2 o2 dNew 0 (i3.mono (by omega) (by omega) fun _ _ z => z) i4 i5 i6 (Int.le_refl _) (by omega)
  rw [j1, j2, eu_X33_finish_185, eu_X37_makeObject_233]; unfold du_X33_finish_185 du_X37_makeObject_233
  have mv0 := aM.1.2
  obtain ⟨u4, w4, o4, k1, k2, k3, k4, k5, k6⟩ := fin_rels hA hX h (jf t 41 H 28).toNat u3 w3 o3 0 j3 j4 j5 j6 (Int.le_refl _) (by omega)
  exact ⟨u4, w4, o4, d4, k1, k2, k3, k4, k5, k6⟩
end jFin2
