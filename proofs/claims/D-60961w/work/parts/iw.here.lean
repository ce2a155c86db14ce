/-! instructions: a hidden symbol and a start, in either order -/
set_option maxRecDepth 100000
section jHere3
variable {s t u w s1 t1 : jS} {v A H b lo k c a x y d n o j i c' a' k' v' : Int} {NL : List (List Int)} {I : pI} {OL : List pvO} {SL : List pvS} {z : pvS} {zo : pvO} {Q Q' : jS → jS → Int → Prop} {xx : Option (jS × Bool × Int)} {yy : Option (jS × Int)}
theorem jp_sw (h : ¬ (c = c' ∧ a = a' ∧ k = k')) : jp (jp s c a k v) c' a' k' v' = jp (jp s c' a' k' v') c a k v := by
  have e : ∀ C B K, jf (jp (jp s c a k v) c' a' k' v') C B K = jf (jp (jp s c' a' k' v') c a k v) C B K := fun C B K => by
    rw [jf_jp, jf_jp, jf_jp, jf_jp]
    by_cases h1 : C = c ∧ B = a ∧ K = k
    · rw [if_pos h1, if_pos h1, if_neg fun e => h ⟨h1.1.symm.trans e.1, h1.2.1.symm.trans e.2.1, h1.2.2.symm.trans e.2.2⟩]
    · rw [if_neg h1, if_neg h1]
  have e2 : jf (jp (jp s c a k v) c' a' k' v') = jf (jp (jp s c' a' k' v') c a k v) := funext fun C => funext fun B => funext fun K => e C B K
  exact Prod.ext rfl (Prod.ext rfl (Prod.ext e2 rfl))
/-- the twin's state with a start more -/
def pSt (H n y : Int) (s : jS) : jS := jp (jp s 1000 (H + 155) n y) 41 H 26 (n + 1)
theorem pSt_f (h : ¬ (c = 1000 ∧ a = H + 155) ∧ ¬ (c = 41 ∧ a = H ∧ k = 26)) : jf (pSt H n y s) c a k = jf s c a k := by
  unfold pSt; rw [jf_neg (by omega), jf_neg (by omega)]
theorem pSt_p (h : ¬ (c = 1000 ∧ a = H + 155) ∧ ¬ (c = 41 ∧ a = H ∧ k = 26)) : jp (pSt H n y s) c a k v = pSt H n y (jp s c a k v) := by
  unfold pSt
  rw [jp_sw (show ¬ (41 = c ∧ H = a ∧ 26 = k) by omega), jp_sw (show ¬ (1000 = c ∧ H + 155 = a ∧ n = k) by omega)]
def pMp (H n y : Int) (x : Option (jS × Int)) : Option (jS × Int) := x.bind fun q => some (pSt H n y q.1, q.2)
theorem pf_fail : m_X37_fail (pSt H n y t) H o = pMp H n y (m_X37_fail t H o) := by
  rw [em_X37_fail]; unfold dm_X37_fail pMp
  rw [em_X37_fail_2]; unfold dm_X37_fail_2
  simp only [jls]
  rw [pSt_f (by omega), pSt_f (by omega)]
  by_cases c : jf t 41 H 42 = 0
  · rw [if_pos c, if_pos c, pSt_p (by omega), pSt_p (by omega)]; rfl
  · rw [if_neg c, if_neg c]; rfl
theorem pf_newS : m_X37_newSymbol (pSt H n y t) H x = pMp H n y (m_X37_newSymbol t H x) := by
  rw [em_X37_newSymbol]; unfold dm_X37_newSymbol
  simp only [jls]
  rw [pSt_f (by omega), pf_fail]
  by_cases c : jf t 41 H 12 = 100
  · rw [if_pos c, if_pos c]; unfold pMp
    cases m_X37_fail t H 18 <;> rfl
  rw [if_neg c, if_neg c, pSt_p (by omega)]
  unfold jst
  by_cases c2 : 0 ≤ jf t 41 H 12 ∧ jf t 41 H 12 < 100
  · simp only [if_pos c2, Option.bind_some]
    rw [pSt_p (by omega), pSt_p (by omega), pSt_p (by omega), pSt_p (by omega), pSt_p (by omega)]; rfl
  · simp only [if_neg c2]; rfl
theorem pf_newH : m_X37_newHidden (pSt H n y t) H = pMp H n y (m_X37_newHidden t H) := by
  rw [em_X37_newHidden]; unfold dm_X37_newHidden
  simp only [jls]
  rw [pSt_f (by omega), pf_newS]
  unfold pMp
  rw [Option.bind_assoc, Option.bind_assoc]
  congr 1
  funext q
  rw [Option.bind_some]
  dsimp only
  rw [pSt_f (by omega), pSt_p (by omega)]
  by_cases c : q.2 = -1
  · rw [if_pos c, if_pos c]; rfl
  · rw [if_neg c, if_neg c]; rfl
theorem pf_def : m_X37_define (pSt H n y t) H i c d = pMp H n y (m_X37_define t H i c d) := by
  rw [em_X37_define]; unfold dm_X37_define
  unfold jst
  by_cases c2 : 0 ≤ i ∧ i < 100
  · simp only [if_pos c2, Option.bind_some]
    rw [pSt_p (by omega), pSt_p (by omega)]; rfl
  · simp only [if_neg c2]; rfl
theorem pf_here : m_X37_symbolHere (pSt H n y t) H = pMp H n y (m_X37_symbolHere t H) := by
  rw [em_X37_symbolHere]; unfold dm_X37_symbolHere
  rw [pSt_f (by omega), pf_newH]
  by_cases c : jf t 41 H 48 = -1
  rotate_left
  · rw [if_neg c, if_neg c]; rfl
  rw [if_pos c, if_pos c]
  unfold pMp
  rw [Option.bind_assoc, Option.bind_assoc]
  congr 1
  funext q
  rw [Option.bind_some]
  simp only [jls]
  rw [pSt_p (by omega)]
  generalize jp q.1 41 H 48 q.2 = r
  rw [pSt_f (by omega), pSt_f (by omega), pSt_f (by omega), pf_def]
  have e45 : ∀ r, u_X37_symbolHere_45 (pSt H n y r) H = (u_X37_symbolHere_45 r H).bind fun q => some (pSt H n y q.1, q.2) := fun r => by
    rw [eu_X37_symbolHere_45]; unfold du_X37_symbolHere_45
    rw [pSt_f (by omega)]; rfl
  by_cases c2 : jf r 41 H 48 = -1
  · rw [if_pos c2, if_pos c2]; exact e45 r
  · rw [if_neg c2, if_neg c2]
    unfold pMp
    rw [Option.bind_assoc, Option.bind_assoc]
    congr 1
    funext q
    exact e45 q.1
theorem begun_is (hn : ¬ jf t 41 H 26 = 1024) (h0 : 0 ≤ jf t 41 H 26 ∧ jf t 41 H 26 < 1024) : m_X37_begun t H = some (pSt H (jf t 41 H 26) (jf t 41 H 47) t, 1) := by
  rw [em_X37_begun]; unfold dm_X37_begun
  rw [if_neg hn, jst_in h0.1 h0.2, Option.bind_some]
  simp only [jls]
  rw [jf_neg (by omega), W32_in (by omega) (by omega), Wz_1]; rfl
/-- a start and a hidden symbol -/
theorem hereB (h : AG s t A H b lo NL I OL SL k z) (hI : inI H t) :
    (∃ q r, (m_X33_started s A).bind (fun q => m_X33_hereSymbol q.1 A) = some q ∧ m_X37_symbolHere t H = some (r, -1) ∧ aBad s t A H q r) ∨
    (∃ s0 u w0 w i, m_X33_started s A = some (s0, 0) ∧ m_X33_hereSymbol s0 A = some (u, false, i) ∧ m_X37_symbolHere t H = some (w0, i) ∧ m_X37_begun w0 H = some (w, 1) ∧ AG u w A H b lo NL I OL SL k z ∧ cFa A s u 0 0 ∧ tF H t w ∧ (0 ≤ i ∧ i < 100) ∧ (∀ c a j, ¬ (c = 37 ∧ a = A ∧ (j = 25 ∨ j = 26 ∨ j = 27 ∨ j = 31)) → ¬ (c = 38) → ¬ (c = 1000 ∧ (a = A + 2 ∨ a = A + 16 ∨ a = A + 17)) → ¬ (c = 1003) → jf u c a j = jf s c a j) ∧ (∀ c a j, ¬ (c = 41 ∧ a = H ∧ (j = 12 ∨ j = 19 ∨ j = 26 ∨ j = 48)) → ¬ (c = 1000 ∧ (H + 143 ≤ a ∧ a ≤ H + 148 ∨ a = H + 150 ∨ a = H + 151 ∨ a = H + 155)) → jf w c a j = jf t c a j) ∧ jf w 41 H 26 = jf t 41 H 26 + 1) := by
  obtain ⟨aS, aT, aI, aB, aM, ⟨⟨a1, a2⟩, -⟩, aK, aH, a0⟩ := h.1.2.2.2.1
  obtain ⟨u1, w1, e1, e2, e3, e4, e5, e6, -, e7⟩ := started3 h hI
  have eb := begun_is (H := H) (t := t) (by have := hI.2.2; omega) ⟨a2, hI.2.2⟩
  rw [eb] at e2
  have ew : pSt H (jf t 41 H 26) (jf t 41 H 47) t = w1 := congrArg Prod.fst (Option.some.inj e2)
  have com := pf_here (H := H) (n := jf t 41 H 26) (y := jf t 41 H 47) (t := t)
  rw [ew] at com
  have h0 := here2 h.1
  rcases here2 e3.1 with ⟨q, r, d1, d2, d3⟩ | ⟨u, v, i, d1, d2, d3, d4, d5, d6, d7, d8, d9⟩
  · left
    rw [d2] at com
    have : ∃ r0, m_X37_symbolHere t H = some (r0, -1) ∧ r = pSt H (jf t 41 H 26) (jf t 41 H 47) r0 := by
      cases hh : m_X37_symbolHere t H with
      | none => rw [hh] at com; exact absurd com (by intro e; cases e)
      | some p =>
        rw [hh] at com
        obtain ⟨p1, p2⟩ := p
        have c2 := Option.some.inj com
        have c3 := congrArg Prod.fst c2
        have c4 := congrArg Prod.snd c2
        dsimp only at c3 c4
        exact ⟨p1, by rw [← c4], c3⟩
    obtain ⟨r0, b1, b2⟩ := this
    refine ⟨q, r0, by rw [e1, Option.bind_some]; exact d1, b1, ?_⟩
    obtain ⟨f, p, g1, g2, g3, g4, g5, g6, g7⟩ := d3
    refine ⟨f, p, g1, g2, g3, g4, ?_, ?_, ?_⟩
    · rw [b2, pSt_f (by omega), pSt_f (by omega)] at g5; exact g5
    · exact (e4.trans g6 : cFa A s q.1 (0 + 1) (0 + 6))
    · have t2 := e5.trans g7
      refine ⟨?_, fun c a j z1 z2 z3 z4 => ?_⟩
      · have := t2.1; rw [b2] at this; exact this
      · have := t2.2 c a j z1 z2 z3 z4
        rw [b2, pSt_f (by omega)] at this; exact this
  · right
    rw [d2] at com
    have : ∃ r0, m_X37_symbolHere t H = some (r0, i) ∧ v = pSt H (jf t 41 H 26) (jf t 41 H 47) r0 := by
      cases hh : m_X37_symbolHere t H with
      | none => rw [hh] at com; exact absurd com (by intro e; cases e)
      | some p =>
        rw [hh] at com
        obtain ⟨p1, p2⟩ := p
        have c2 := Option.some.inj com
        have c3 := congrArg Prod.fst c2
        have c4 := congrArg Prod.snd c2
        dsimp only at c3 c4
        exact ⟨p1, by rw [← c4], c3⟩
    obtain ⟨r0, b1, b2⟩ := this
    rcases h0 with ⟨q', r', x1, x2, x3⟩ | ⟨u', v', i', x1, x2, x3, x4, x5, x6, x7, x8, x9⟩
    · rw [b1] at x2
      have := congrArg Prod.snd (Option.some.inj x2)
      dsimp only at this; omega
    rw [b1] at x2
    have ev : r0 = v' := congrArg Prod.fst (Option.some.inj x2)
    subst ev
    have q26 : jf r0 41 H 26 = jf t 41 H 26 := x8 _ _ _ (by omega) (by omega)
    have q47 : jf r0 41 H 47 = jf t 41 H 47 := x8 _ _ _ (by omega) (by omega)
    have bb := begun_is (H := H) (t := r0) (by rw [q26]; have := hI.2.2; omega) (by rw [q26]; exact ⟨a2, hI.2.2⟩)
    rw [q26, q47, ← b2] at bb
    have lt : jf v 41 H 12 ≤ 100 := d3.2.2.2.1.1.2.1.2
    have g : AG u v A H b lo NL I OL SL k z := e3.bk d3 ⟨d7 _ _ _ (by omega) (by omega) (by omega), d7 _ _ _ (by omega) (by omega) (by omega)⟩ ⟨d8 _ _ _ (by omega) (by omega), d8 _ _ _ (by omega) (by omega)⟩
    refine ⟨u1, u, r0, v, i, e1, d1, b1, bb, g, (e4.trans d4 : cFa A s u (0 + 0) (0 + 0)), e5.trans d5, by omega, fun c a j z1 z2 z3 z4 => ?_, fun c a j z1 z2 => ?_, ?_⟩
    · rw [d7 _ _ _ (by omega) (by omega) (by omega), e7 _ _ _ (by omega) (by omega)]
    · rw [d8 _ _ _ (by omega) (by omega), ← ew, pSt_f (by omega)]
    · rw [d8 _ _ _ (by omega) (by omega), e6.2.2]
end jHere3
