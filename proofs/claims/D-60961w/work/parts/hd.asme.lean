/-! the assembler: words are put, both sides *-/
section jAsme
variable {s t u v w s1 t1 : jS} {A H b lo N k i j o c a n p X Y d e m x y J f g : Int} {NL : List (List Int)} {I : pI} {OL : List pvO} {SL : List pvS} {z : pvS} {q : jS × Bool × Int} {r : jS} {Q Q' : jS → jS → Int → Prop}
/-- what putting words changes -/
def emU (A : Int) (s u : jS) : Prop := ∀ c a j, ¬ (c = 37 ∧ a = A ∧ (j = 27 ∨ j = 28)) → ¬ (c = 1000 ∧ (a = A + 7 ∨ A + 10 ≤ a ∧ a ≤ A + 14 ∨ a = A + (-4147) + 24 ∨ a = A + (-4147) + 25)) → ¬ (c = 1001 ∧ A + 4 ≤ a ∧ a ≤ A + 6) → ¬ (c = 1003 ∧ a = A + 9) → jf u c a j = jf s c a j
def emV (H : Int) (t v : jS) : Prop := ∀ c a j, ¬ (c = 41 ∧ a = H ∧ (j = 26 ∨ j = 28)) → ¬ (c = 1000 ∧ (a = H + 152 ∨ a = H + 153 ∨ H + 155 ≤ a ∧ a ≤ H + 160 ∨ a = H + 6)) → ¬ (c = 42 ∧ a = H + 4) → jf v c a j = jf t c a j
/-- n starts more -/
def emQ (A H n : Int) (s t u w : jS) : Prop := emU A s u ∧ emV H t w ∧ jf w 41 H 26 = jf t 41 H 26 + n
theorem emQ.rfl : emQ A H 0 s t s t := ⟨fun _ _ _ _ _ _ _ => Eq.refl _, fun _ _ _ _ _ _ => Eq.refl _, by omega⟩
theorem emQ.trans (h : emQ A H m s t u w) (k : emQ A H n u w s1 t1) : emQ A H (m + n) s t s1 t1 := ⟨fun c a j z1 z2 z3 z4 => (k.1 c a j z1 z2 z3 z4).trans (h.1 c a j z1 z2 z3 z4), fun c a j z1 z2 z3 => (k.2.1 c a j z1 z2 z3).trans (h.2.1 c a j z1 z2 z3), by have := h.2.2; have := k.2.2; omega⟩
theorem puQ.em (h : puQ A H s t n u w) : emQ A H 0 s t u w := ⟨fun c a j _ z2 z3 _ => h.1 c a j (by omega) (by omega), fun c a j _ z2 _ => h.2.1 c a j (by omega), by rw [h.2.1 _ _ _ (by omega)]; omega⟩
theorem mvQ.em (h : mvQ A H s t u w) : emQ A H 0 s t u w := ⟨fun c a j z1 z2 _ _ => h.1 c a j (by omega) (by omega), fun c a j z1 z2 _ => h.2 c a j (by omega) (by omega), by rw [h.2 _ _ _ (by omega) (by omega)]; omega⟩
/-- the words' own cells -/
theorem AG.wd {P : jP4} (h : AG s t A H b lo NL I OL SL k z) (m : Wrw s u (A + (-4147))) (e : w = jp (pw4 (jp t 42 (H + 4) 0 d) (H + 4 + 2) P) 42 (H + 4) 0 x) : AG u w A H b lo NL I OL SL k z ∧ cFa A s u 0 0 ∧ tF H t w ∧ emQ A H 0 s t u w := by
  obtain ⟨⟨m1, m2, m3, m4, m5, m6, m7⟩, m8⟩ := m
  have fw : ∀ c a j, ¬ (c = 42 ∧ a = H + 4 ∧ j = 0) → ¬ (c = 1000 ∧ a = H + 6) → jf w c a j = jf t c a j := fun c a j z1 z2 => by
    rw [e, jf_neg (by omega), jf_pw4, if_neg (by omega), jf_neg (by omega)]
  have cF : cFa A s u 0 0 := ⟨⟨by omega, by omega, by omega, m5, m6, m7⟩, fun a _ => ⟨by rw [m1], by rw [m2]⟩, fun c a k _ z => m8 c a k (by omega)⟩
  have sm : jSm t w := by
    have a1 : jSm t (jp t 42 (H + 4) 0 d) := jSm.rfl.jp
    have a2 : jSm t (pw4 (jp t 42 (H + 4) 0 d) (H + 4 + 2) P) := a1
    rw [e]; exact a2.jp
  have tf : tF H t w := ⟨sm, fun c a k z1 z2 z3 z4 => fw _ _ _ (by omega) (by omega)⟩
  obtain ⟨aS, aT, aI, aB, aM, aSt, aK, aH, a0⟩ := h.1.2.2.2.1
  have R : AR u w A H b lo NL I OL SL k z := h.1.mk cF tf ⟨aS.cg (fun c a j _ => m8 _ _ _ (by omega)) (fun c a j _ => fw _ _ _ (by omega) (by omega)), aT.cg (fun c a j _ => m8 _ _ _ (by omega)) (fun c a j _ => fw _ _ _ (by omega) (by omega)) (by rw [fw _ _ _ (by omega) (by omega)]; omega), aI.cg fun a j _ => fw _ _ _ (by omega) (by omega), aB.cg (fun c a j _ => m8 _ _ _ (by omega)) (fun c a j _ => fw _ _ _ (by omega) (by omega)), aM.cg (fun c a j _ => m8 _ _ _ (by omega)) (fun c a j _ => fw _ _ _ (by omega) (by omega)), aSt.cg (fun c a j _ => m8 _ _ _ (by omega)) (fun c a j _ => fw _ _ _ (by omega) (by omega)), aK.cg (fun c a j _ => m8 _ _ _ (by omega)) (fun c a j _ => fw _ _ _ (by omega) (by omega)), aH.cg (fun c a j _ => m8 _ _ _ (by omega)) (fun c a j _ => fw _ _ _ (by omega) (by omega)) (by rw [fw _ _ _ (by omega) (by omega)]; omega), by rw [fw _ _ _ (by omega) (by omega)]; exact a0⟩
  exact ⟨h.bk R ⟨m8 _ _ _ (by omega), m8 _ _ _ (by omega)⟩ ⟨fw _ _ _ (by omega) (by omega), fw _ _ _ (by omega) (by omega)⟩, cF, tf, fun c a j z1 z2 _ _ => m8 _ _ _ (by omega), fun c a j z1 z2 z3 => fw _ _ _ (by omega) (by omega), by rw [fw _ _ _ (by omega) (by omega)]; omega⟩
theorem AG.cx (h : AG s t A H b lo NL I OL SL k z) : pWd s (A + (-4147)) ∧ pRows t (H + 4 + 1) := ⟨h.1.1.2.1.1, h.1.2.1.2⟩
/-- a good word on both sides -/
theorem word3 {kn : Nat} {D B C E : Int} (h : AG s t A H b lo NL I OL SL k z) (hk : kn < 75) (hg : pGood kn (D, B, C, E) = true) (hr : ∀ e : Nat, e < 4 → -2147483640 ≤ p4g (D, B, C, E) e ∧ p4g (D, B, C, E) e ≤ 2147483647) :
    m_X2_word s (A + (-4147)) kn D B C E = some (s, false, pPut kn (D, B, C, E)) ∧ ∃ w, m_X37_word t H kn D B C E = some (w, pPut kn (D, B, C, E)) ∧ AG s w A H b lo NL I OL SL k z ∧ tF H t w ∧ emQ A H 0 s t s w := by
  obtain ⟨c1, c2⟩ := h.cx
  have hc := (c_word c1.1 (k := (kn : Int)) (d := D) (a := B) (b := C) (i := E) (fun e he => by have := hr e he; omega)).2.2 (by omega) (by rw [Int.toNat_natCast]; exact hg)
  have ht := (t_word c2 (k := (kn : Int)) (d := D) (a := B) (b := C) (i := E) hr).2.2 (by omega) (by rw [Int.toNat_natCast]; exact hg)
  rw [Int.toNat_natCast] at hc ht
  refine ⟨hc, jp (pw4 (jp t 42 (H + 4) 0 0) (H + 4 + 2) (D, B, C, E)) 42 (H + 4) 0 0, ?_, ?_⟩
  · rw [em_X37_word]; unfold dm_X37_word
    rw [ht, Option.bind_some]
  · obtain ⟨r1, -, r3, r4⟩ := h.wd (u := s) Wrw.rfl rfl
    exact ⟨r1, r3, r4⟩
theorem pw_mod {kn : Nat} {D B C E : Int} (hk : kn < 75) (hg : pGood kn (D, B, C, E) = true) : jin (pPut kn (D, B, C, E)) ∧ (pPut kn (D, B, C, E) % 4 = 3 ↔ kn < 48) := by
  have hr := (rt_k D B C E kn hk hg).1
  refine ⟨pPut_in _ _, fun h => ?_, fun h => long_3 _ kn h hr⟩
  by_cases c : kn < 48
  · exact c
  · exact absurd h (short_3 _ kn hk (by omega) hr)
/-- an instruction begins -/
theorem started2 (h : AG s t A H b lo NL I OL SL k z) (hn : jf t 41 H 26 < 1024) (h47 : jf t 41 H 47 ≤ 2048) : ∃ u w, m_X33_started s A = some (u, 0) ∧ m_X37_begun t H = some (w, 1) ∧ AG u w A H b lo NL I OL SL k z ∧ cFa A s u 0 0 ∧ tF H t w ∧ emQ A H 1 s t u w := by
  obtain ⟨aS, aT, aI, aB, aM, ⟨⟨c1, c2⟩, aSt⟩, aK, aH, a0⟩ := h.1.2.2.2.1
  have h32 := aH.2.2
  rw [em_X33_started, em_X37_begun]; unfold dm_X33_started dm_X37_begun
  rw [if_neg (by omega), c1, h32.1]
  generalize hc : jf t 41 H 26 = n at *
  generalize h4 : jf t 41 H 47 = y at *
  obtain ⟨u1, E1⟩ : ∃ u1, u1 = jp s 1003 (A + 9) n y := ⟨_, rfl⟩
  obtain ⟨u2, E2⟩ : ∃ u2, u2 = jp u1 37 A 27 (n + 1) := ⟨_, rfl⟩
  obtain ⟨w1, G1⟩ : ∃ w1, w1 = jp t 1000 (H + 155) n y := ⟨_, rfl⟩
  obtain ⟨w2, G2⟩ : ∃ w2, w2 = jp w1 41 H 26 (n + 1) := ⟨_, rfl⟩
  obtain ⟨f1, p1, -⟩ := jpF E1
  obtain ⟨f2, p2, -⟩ := jpF E2
  obtain ⟨g1, r1, -⟩ := jpF G1
  obtain ⟨g2, r2, -⟩ := jpF G2
  have qu : ∀ c a j, ¬ (c = 37 ∧ a = A ∧ j = 27) → ¬ (c = 1003 ∧ a = A + 9) → jf u2 c a j = jf s c a j := fun c a j z1 z2 => by rw [f2 _ _ _ (by omega), f1 _ _ _ (by omega)]
  have qv : ∀ c a j, ¬ (c = 41 ∧ a = H ∧ j = 26) → ¬ (c = 1000 ∧ a = H + 155) → jf w2 c a j = jf t c a j := fun c a j z1 z2 => by rw [g2 _ _ _ (by omega), g1 _ _ _ (by omega)]
  have cF : cFa A s u2 0 0 := (cFa.rfl.wr E1 (by omega)).wr E2 (by omega)
  have tf : tF H t w2 := (tF.rfl.wr G1 (by omega)).wr G2 (by omega)
  have R : AR u2 w2 A H b lo NL I OL SL k z := h.1.mk cF tf ⟨aS.cg (fun c a j _ => qu _ _ _ (by omega) (by omega)) (fun c a j _ => qv _ _ _ (by omega) (by omega)), aT.cg (fun c a j _ => qu _ _ _ (by omega) (by omega)) (fun c a j _ => qv _ _ _ (by omega) (by omega)) (by rw [qv _ _ _ (by omega) (by omega)]; omega), aI.cg fun a j _ => qv _ _ _ (by omega) (by omega), aB.cg (fun c a j _ => qu _ _ _ (by omega) (by omega)) (fun c a j _ => qv _ _ _ (by omega) (by omega)), aM.cg (fun c a j _ => qu _ _ _ (by omega) (by omega)) (fun c a j _ => qv _ _ _ (by omega) (by omega)), ⟨by rw [p2, r2]; exact ⟨rfl, by omega⟩, fun i i0 i1 => ?_⟩, aK.cg (fun c a j _ => qu _ _ _ (by omega) (by omega)) (fun c a j _ => qv _ _ _ (by omega) (by omega)), aH.cg (fun c a j _ => qu _ _ _ (by omega) (by omega)) (fun c a j _ => qv _ _ _ (by omega) (by omega)) (by rw [qv _ _ _ (by omega) (by omega)]; omega), by rw [qv _ _ _ (by omega) (by omega)]; exact a0⟩
  · refine ⟨u2, w2, ?_, ?_, h.bk R ⟨qu _ _ _ (by omega) (by omega), qu _ _ _ (by omega) (by omega)⟩ ⟨qv _ _ _ (by omega) (by omega), qv _ _ _ (by omega) (by omega)⟩, cF, tf, fun c a j z1 z2 z3 z4 => qu _ _ _ (by omega) (by omega), fun c a j z1 z2 z3 => qv _ _ _ (by omega) (by omega), by rw [r2, hc]⟩
    · rw [W16_in (v := y) (by omega) (by omega), W16_in (by omega) (by omega), jst_in c2 (by omega), Option.bind_some, ← E1]
      simp only [jls]
      rw [f1 _ _ _ (by omega), c1, W32_in (by omega) (by omega), ← E2]
    · rw [jst_in c2 (by omega), Option.bind_some, ← G1]
      simp only [jls]
      rw [g1 _ _ _ (by omega), hc, W32_in (by omega) (by omega), ← G2, Wz_1]
  · rw [r2] at i1
    by_cases ci : i = n
    · subst ci
      rw [f2 _ _ _ (by omega), p1, g2 _ _ _ (by omega), r1]
      exact ⟨rfl, h32.2.1, h47⟩
    · rw [f2 _ _ _ (by omega), f1 _ _ _ (by omega), g2 _ _ _ (by omega), g1 _ _ _ (by omega)]
      exact aSt i i0 (by omega)
/-- a word, or its short form -/
theorem put_word (h : AG s t A H b lo NL I OL SL k z) (h3 : jf t 41 H 34 < 3) (hx : jin x) (hx4 : x % 4 = 3) : stO s t A H b lo NL I OL SL k z (m_X33_word s A x) (m_X37_putPlain t H x) fun u w _ => emQ A H 0 s t u w := by
  obtain ⟨c1, c2⟩ := h.cx
  have a39 := h.1.2.2.2.1.2.2.2.2.2.2.1.2.2.1
  rw [em_X33_word, em_X37_putPlain]; unfold dm_X33_word dm_X37_putPlain
  rw [I_and_3, if_pos hx4, a39.1, eu_X37_putPlain_12]; unfold du_X37_putPlain_12
  rw [if_neg n10]
  have lg : ∀ {s t}, AG s t A H b lo NL I OL SL k z → jf t 41 H 34 < 3 → stO s t A H b lo NL I OL SL k z (u_X33_word_19 s A x (-1)) (u_X37_putPlain_36 t H x 1 (-1)) fun u w _ => emQ A H 0 s t u w := fun {s t} g g3 => by
    rw [eu_X33_word_19, eu_X37_putPlain_36]; unfold du_X33_word_19 du_X37_putPlain_36
    rw [if_pos rfl, if_pos rfl, if_neg n10, eu_X37_putPlain_62]; unfold du_X37_putPlain_62
    refine (putNum2 g g3 (by omega) (by omega)).bind (fun _ _ => rfl) tw1 fun u w v g' d1 d2 d3 => ?_
    dsimp only
    rw [jth_ff, Wz_1]
    exact .ret g' d3.em
  by_cases c0 : jf t 41 H 35 = 0
  · rw [if_pos c0, if_pos c0, eu_X37_putPlain_35]; unfold du_X37_putPlain_35
    exact lg h h3
  rw [if_neg c0, if_neg c0]
  obtain ⟨r, e1, q, e2, e3, e4, P, e5⟩ := p_shorter (t := t) (V := H + 4) c1 c2 (w := x) hx
  rw [e1, e2, Option.bind_some, Option.bind_some]
  obtain ⟨r1, r2⟩ := r
  obtain ⟨q1, q2⟩ := q
  have e3' : r2 = q2 := e3
  subst e3'
  have e6 : q1 = jp (pw4 (jp t 42 (H + 4) 0 0) (H + 4 + 2) P) 42 (H + 4) 0 0 := by
    have : q1 = pw4 (jp t 42 (H + 4) 0 0) (H + 4 + 2) P := e5
    rw [this]
    refine (jp_same ?_).symm
    rw [jf_pw4, if_neg (by omega), jf_jp, if_pos ⟨rfl, rfl, rfl⟩]
  obtain ⟨g1, g2, g3, g4⟩ := h.wd e4 e6
  have h3' : jf q1 41 H 34 < 3 := by rw [g4.2.1 _ _ _ (by omega) (by omega) (by omega)]; exact h3
  dsimp only
  have key : stO r1 q1 A H b lo NL I OL SL k z (u_X33_word_19 r1 A x r2) (u_X37_putPlain_36 q1 H x 1 r2) fun u w _ => emQ A H 0 s t u w := by
    by_cases cm : r2 = -1
    · subst cm
      exact (lg g1 h3').mono fun u w v d => g4.trans d
    · rw [eu_X33_word_19, eu_X37_putPlain_36]; unfold du_X33_word_19 du_X37_putPlain_36
      rw [if_neg cm, if_neg cm]
      refine (putNum2 g1 h3' (by omega) (by omega)).bind (fun _ _ => rfl) tw1 fun u w v g' d1 d2 d3 => ?_
      dsimp only
      rw [jth_ff, Wz_1]
      exact .ret g' (g4.trans d3.em)
  rcases key with ⟨q, r, d1, d2, d3⟩ | ⟨u', w', v', d1, d2, d3, d4, d5, d6⟩
  · exact .inl ⟨q, r, d1, d2, d3.after g2 g3⟩
  · exact .inr ⟨u', w', v', d1, d2, d3, (g2.trans d4 : cFa A s u' (0 + 0) (0 + 0)), g3.trans d5, d6⟩
/-- a short word -/
theorem put_short (h : AG s t A H b lo NL I OL SL k z) (h3 : jf t 41 H 34 < 3) (hx4 : ¬ x % 4 = 3) : stO s t A H b lo NL I OL SL k z (m_X33_putNumber s A x 2) (m_X37_putPlain t H x) fun u w _ => emQ A H 0 s t u w := by
  rw [em_X37_putPlain]; unfold dm_X37_putPlain
  rw [I_and_3, if_neg hx4, eu_X37_putPlain_12]; unfold du_X37_putPlain_12
  rw [if_pos rfl, eu_X37_putPlain_35]; unfold du_X37_putPlain_35
  rw [eu_X37_putPlain_36]; unfold du_X37_putPlain_36
  rw [if_pos rfl, if_pos rfl, eu_X37_putPlain_62]; unfold du_X37_putPlain_62
  have := (putNum2 (x := x) h h3 (n := 2) (by omega) (by omega)).bind (f := fun q => jth q.2.1 (some (q.1, true, q.2.2)) (some (q.1, false, q.2.2))) (g := fun q1 => some (q1.1, Wz q1.2)) (Q' := fun u w _ => emQ A H 0 s t u w) (fun _ _ => rfl) tw1 fun u w v g' d1 d2 d3 => by
    dsimp only
    rw [jth_ff, Wz_1]
    exact .ret g' d3.em
  have id : (m_X33_putNumber s A x 2).bind (fun q => jth q.2.1 (some (q.1, true, q.2.2)) (some (q.1, false, q.2.2))) = m_X33_putNumber s A x 2 := by
    cases m_X33_putNumber s A x 2 with
    | none => rfl
    | some q => obtain ⟨q1, q2, q3⟩ := q; cases q2 <;> rfl
  rw [id] at this
  exact this
/-- what the twin does with a word and its relocation -/
theorem pm_eq (h0 : 0 ≤ jf t 41 H 34 ∧ jf t 41 H 34 < 3) : m_X37_putMoved t H x o d y = (m_X37_putBytes t H x (if x % 4 = 3 then 4 else 2)).bind fun q1 => if q1.2 = 0 then some (q1.1, Wz 0) else (m_X37_wordMove q1.1 H (jf t 1000 (H + 153) (jf t 41 H 34)) o d y).bind fun q2 => if q2.2 = 0 then some (q2.1, Wz 0) else some (q2.1, Wz 1) := by
  rw [em_X37_putMoved]; unfold dm_X37_putMoved
  rw [jlt_in h0.1 (by omega), Option.bind_some, I_and_3, eu_X37_putMoved_25]; unfold du_X37_putMoved_25
  by_cases c : x % 4 = 3
  · rw [if_pos c, if_pos c]
  · rw [if_neg c, if_neg c]
end jAsme
