/-! load, on both sides -/
section jLoad4
variable {s t u w r q : jS} {C T M U O X n x k a v b c e0 : Int} {g : Int → Int} {i : Int → Int → Int → Int}
theorem i_read3 (C : iC s (O + 25) (O + 19) g n) (hz : cIz s (O + 25 + 1)) (hT : jTt s 43 (O + 25 + 1)) (C' : sC t X g n) : jE2 (m_X22_read s O) (m_X42_read t X) fun r q =>
    (r.2 = q.2 ∧ jf r.1 26 O 5 = jf q.1 46 X 10 ∧ ((jGw s r.1 1 6 (fun a => O ≤ a ∧ a < O + 37) ∧ jEx s r.1) ∧ cIz r.1 (O + 25 + 1) ∧ ∀ c a k, ¬ a = jn s → O + 1 ≤ a ∧ a < O + 10 ∨ O + 19 ≤ a ∧ a < O + 25 → jf r.1 c a k = jf s c a k) ∧ sRe t q.1 X ∧
    ((r.2 = 0 ∧ cIm r.1 (O + 10) (iR g) ∧ tIm q.1 X 1 (iR g) ∧ vIm (iR g)) ∨ (¬ r.2 = 0 ∧ sRd t q.1 X ∧ ∀ c a k, O ≤ a → a < O + 25 → ¬ (c = 26 ∧ a = O ∧ k = 5) → ¬ a = jn s → jf r.1 c a k = jf s c a k))) ∧ (r.2 = 0 → gIm (iR g)) := by
  obtain ⟨r', er', q', eq', H⟩ := i_read2 C hz hT C'
  obtain ⟨r, er, q, eq, h⟩ := ck_two (x_read C hz hT) (s_read C')
  have e : r = r' := Option.some.inj (er.symm.trans er')
  have e2 : q = q' := Option.some.inj (eq.symm.trans eq')
  subst e e2
  refine ⟨r, er, q, eq, H, fun z => ?_⟩
  rcases h with ⟨d, -⟩ | ⟨f, p, hf, ⟨a1, u, a2, a3⟩, b1, b2, b3, b4⟩
  · exact gIm_of d
  · exact absurd (a1.symm.trans z) b1
theorem Mr.kp (h : Mr s M t U) (hK : MrK r M) (e : ∀ c a, M ≤ a → a < M + 119 → jf r c a = jf s c a) (e' : ∀ c a, U ≤ a → a < U + 13 → jf q c a = jf t c a) : Mr r M q U := by
  obtain ⟨-, hP, hMem, hMark, hSeg, hReg, hIn, hOut, hHalt, hSc, hRing⟩ := h
  refine ⟨hK, hP.at (e' _ _ (by omega) (by omega)), ?_, ?_, ?_, ?_, ?_, ?_, ?_, ?_, ?_⟩
  · rw [e _ _ (by omega) (by omega), e' _ _ (by omega) (by omega)]; exact hMem
  · rw [e _ _ (by omega) (by omega), e' _ _ (by omega) (by omega)]; exact hMark
  · rw [e' _ _ (by omega) (by omega), e' _ _ (by omega) (by omega), e' _ _ (by omega) (by omega)]
    intro k k0 k1
    have q := hSeg k k0 k1
    rw [e _ _ (by omega) (by omega)]; exact q
  · rw [e _ _ (by omega) (by omega), e' _ _ (by omega) (by omega)]; exact hReg
  · rw [e _ _ (by omega) (by omega), e' _ _ (by omega) (by omega), e _ _ (by omega) (by omega), e' _ _ (by omega) (by omega)]; exact hIn
  · rw [e _ _ (by omega) (by omega), e' _ _ (by omega) (by omega)]; exact hOut
  · rw [e _ _ (by omega) (by omega), e' _ _ (by omega) (by omega), e _ _ (by omega) (by omega), e' _ _ (by omega) (by omega)]; exact hHalt
  · rw [e _ _ (by omega) (by omega), e' _ _ (by omega) (by omega)]; exact hSc
  · rw [e 33 _ (by omega) (by omega), e' 47 _ (by omega) (by omega), e' 1000 _ (by omega) (by omega)]
    obtain ⟨q1, q2, q3, q4, q5, q6, q7, q8⟩ := hRing
    refine ⟨q1, q2, q3, q4, q5, q6, q7, fun j j0 j1 => ?_⟩
    rw [e _ _ (by omega) (by omega)]; exact q8 j j0 j1
/-- the twin's image's file comes to be read -/
def tGi (t q : jS) (X : Int) : Prop := jSm t q ∧ ∀ c a k, ¬ (c = 46 ∧ a = X ∧ k = 9) → ¬ (c = 1000 ∧ a = X + 9) → jf q c a k = jf t c a k
theorem T_giveI (hs : jf t 41 T 3 = n) (hr : fRow t (T + 3) 0 g n) (n0 : 0 ≤ n) (n1 : n ≤ 16384) : ∃ w, tGi t w (T + 118) ∧ jf w 46 (T + 118) 9 = n ∧ (∀ k, 0 ≤ k → k < n → jf w 1000 (T + 118 + 9) k = g k) ∧ u_X37_load_18 (jp t 46 (T + 118) 9 (jf t 41 T 3)) T 0 = u_X37_load_47 w T := by
  rw [hs, eu_X37_load_18]; unfold du_X37_load_18
  obtain ⟨u, w, -, f2, f3⟩ := jstep2 (A := jc2 b_X37_load_18) (B := jc2 b_X37_load_18) (s := jp t 46 (T + 118) 9 n) (t := jp t 46 (T + 118) 9 n) (fun k u w => u = w ∧ tGi t w (T + 118) ∧ jf w 46 (T + 118) 9 = n ∧ ∀ j, 0 ≤ j → j < k → jf w 1000 (T + 118 + 9) j = g j) (fun k => [T, k]) (fun k => [T, k]) 0 n n0 ⟨rfl, ⟨jSm.rfl.jp, fun c a k h1 h2 => jf_neg (by omega)⟩, jf_pos ⟨rfl, rfl, rfl⟩, fun j j0 j1 => by omega⟩ (fun k u w k0 k1 ⟨e0, e1, e2, e3⟩ => by
    subst e0
    have : b_X37_load_18 u T k = some (.inl (jp u 1000 (T + 118 + 9) k (g k), [T, k + 1])) := by
      unfold b_X37_load_18
      rw [e1.2 41 T 3 (by omega) (by omega), hs, if_pos k1, jlt_in k0 (by omega), Option.bind_some, jst_in k0 (by omega), Option.bind_some, W32_in (by omega) (by omega), e1.2 _ _ _ (by omega) (by omega)]
      have := hr k k0 k1
      rw [Int.zero_add] at this
      rw [this]
    refine ⟨_, _, this, this, rfl, ⟨e1.1.jp, fun c a j h1 h2 => by rw [jf_neg (by omega)]; exact e1.2 c a j h1 h2⟩, by (repeat (first | rw [jf_neg (by omega)] | rw [jf_pos (by omega)] | rw [ou_neg (by omega)] | rw [ou_pos (by omega)])); exact e2, fun j j0 j1 => ?_⟩
    by_cases c : j = k
    · subst c; exact jf_pos ⟨rfl, rfl, rfl⟩
    · rw [jf_neg (by omega)]; exact e3 j j0 (by omega))
  obtain ⟨-, e1, e2, e3⟩ := f3
  refine ⟨w, e1, e2, e3, f2.trans (jlpW_r ?_)⟩
  show b_X37_load_18 w T n = _
  unfold b_X37_load_18
  rw [e1.2 41 T 3 (by omega) (by omega), hs, if_neg (by omega)]
/-- what load leaves of the twin -/
def tLd (t q : jS) (T : Int) : Prop := jSm t q ∧ ∀ c a k, ¬ (T + 118 ≤ a ∧ a < T + 143) → ¬ (c = 41 ∧ a = T ∧ (k = 4 ∨ k = 118)) → jf q c a k = jf t c a k
def LdQ (s : jS) (C : Int) (t : jS) (T : Int) (r q : jS) : Prop := Fls r C q T ∧ cIz r (C + 3992 + 25 + 1) ∧ Mr r (C + 4029) q (T + 130) ∧ jf q 41 T 4 = 0 ∧ (jGw s r 1 6 (fun a => a = C ∨ C + 3992 ≤ a ∧ a < C + 4148) ∧ jEx s r ∧ (∀ c k, ¬ (c = 1 ∧ k = 11) → jf r c C k = jf s c C k) ∧ ∀ c a k, ¬ a = jn s → C + 3993 ≤ a ∧ a < C + 4002 → jf r c a k = jf s c a k) ∧ tLd t q T
theorem LdQ.pl {v' : Int} (h : LdQ s C t T r q) (hn : C + 15464 ≤ jn s) : LdQ s C t T (jp r 1 C 11 v) (jp q 41 T 118 v') := by
  obtain ⟨h1, h2, h3, h4, ⟨h5, h6, h7, h8⟩, h9, h10⟩ := h
  refine ⟨⟨fun u u0 u1 => ?_, ?_⟩, fun x x0 x1 => by rw [jf_neg (by omega)]; exact h2 x x0 x1, h3.kp (h3.1.sm jSm.rfl.jp) (fun c a a0 a1 => ?_) fun c a a0 a1 => ?_, by rw [jf_neg (by omega)]; exact h4, ⟨h5.jp (.inl (.inl rfl)), h6.jp rfl, fun c k hc => by rw [jf_neg (by omega)]; exact h7 c k hc, fun c a k hk ha => by rw [jf_neg (by omega)]; exact h8 c a k hk ha⟩, h9.jp, fun c a k a1 a2 => by rw [jf_neg (by omega)]; exact h10 c a k a1 a2⟩
  · obtain ⟨g, n, p1, p2, p3⟩ := h1.1 u u0 u1
    exact ⟨g, n, p1.kp (fun c a k a0 a1 => jf_neg (by unfold fAt at a0; omega)) rfl (jEx.rfl.jp rfl), by rw [jf_neg (by omega)]; exact p2, fun j j0 j1 => by rw [jf_neg (by omega)]; exact p3 j j0 j1⟩
  · obtain ⟨g, n, p1, p2, p3⟩ := h1.2
    exact ⟨g, n, p1.kp (fun c a k a0 a1 => jf_neg (by omega)) (jEx.rfl.jp rfl), by rw [jf_neg (by omega)]; exact p2, fun j j0 j1 => by rw [jf_neg (by omega)]; exact p3 j j0 j1⟩
  · funext k; exact jf_neg (by omega)
  · funext k; exact jf_neg (by omega)
theorem LdQ.mc {r' q' : jS} (h : LdQ s C t T r q) (hn : C + 15464 ≤ jn s) (C0 : 0 ≤ C) (k : jFx r r' (C + 4029) 119) (k' : jFm q q' (T + 130) 13) (m : Mr r' (C + 4029) q' (T + 130)) : LdQ s C t T r' q' := by
  obtain ⟨h1, h2, h3, h4, ⟨h5, h6, h7, h8⟩, h9, h10⟩ := h
  refine ⟨⟨fun u u0 u1 => ?_, ?_⟩, fun x x0 x1 => by rw [k.F (by unfold vsg; omega)]; exact h2 x x0 x1, m, by rw [k'.2 _ _ _ (by omega)]; exact h4, ⟨(h5.trans k.gw (C := fun a => a = C ∨ C + 3992 ≤ a ∧ a < C + 4148) fun a _ z => by rcases z with z | z; exact z; exact .inr ⟨by omega, by omega⟩).mono (by omega) (by omega) fun a _ z => z, h6.trans k.2, fun c j hc => by rw [k.F (by omega)]; exact h7 c j hc, fun c a j hk ha => by rw [k.F (by omega)]; exact h8 c a j hk ha⟩, jSm.trans h9 k'.1, fun c a j a1 a2 => by rw [k'.2 _ _ _ (by omega)]; exact h10 c a j a1 a2⟩
  · exact (h1.1 u u0 u1).kp k (by unfold fAt; omega) fun a j _ => k'.2 _ _ _ (by omega)
  · exact h1.2.kp k (by omega) (k'.2 _ _ _ (by omega)) fun j => k'.2 _ _ _ (by omega)
theorem f_load2 (hT : jTt s 17 C) (hF : Fls s C t T) (hz : cIz s (C + 3992 + 25 + 1)) (hM : Mr s (C + 4029) t (T + 130)) (hB : 0 ≤ jn s ∧ jBd s 1 6) (hn : C + 15464 ≤ jn s) : jE2 (m_X1_load s C) (m_X37_load t T) fun r q => r.2 = q.2 ∧ LdQ s C t T r.1 q.1 ∧ jf r.1 1 C 11 = jf q.1 41 T 118 := by
  obtain ⟨⟨C0, -⟩, -, -, -, -, hTi, -, -, -, -⟩ := T17 hT
  obtain ⟨-, hT1, hT10, hT19, hT21, hT25⟩ := T42 hTi
  obtain ⟨g, n, hb, hs, hr⟩ := hF.2
  obtain ⟨l0, l1⟩ : 0 ≤ n ∧ n ≤ 16384 := ⟨hb.1.2.1, hb.2.1⟩
  have e0 : ∀ c a j, ¬ (c = 41 ∧ a = T ∧ j = 4) → jf (jp t 41 T 4 0) c a j = jf t c a j := fun c a j hc => jf_neg (by omega)
  obtain ⟨w, w1, w2, w3, w4⟩ := T_giveI (t := jp t 41 T 4 0) (T := T) (g := g) (n := n) (by rw [e0 _ _ _ (by omega)]; exact hs) (fun j j0 j1 => by rw [e0 _ _ _ (by omega)]; exact hr j j0 j1) l0 l1
  have w0 : ∀ c a j, ¬ (c = 41 ∧ a = T ∧ j = 4) → ¬ (c = 46 ∧ a = T + 118 ∧ j = 9) → ¬ (c = 1000 ∧ a = T + 118 + 9) → jf w c a j = jf t c a j := fun c a j i1 i2 i3 => (w1.2 c a j i2 i3).trans (e0 c a j i1)
  have wt : jf w 41 T 4 = 0 := by rw [w1.2 _ _ _ (by omega) (by omega)]; exact jf_pos ⟨rfl, rfl, rfl⟩
  have hT26 : jTt s 43 (C + 3992 + 25 + 1) := (hT25.fld (k := 0) (o := 1) (by decide)).2
  obtain ⟨r, er, q, eq, ⟨r1, r2, ⟨⟨r3, r4⟩, r5, r6⟩, r7, r8⟩, r9⟩ := i_read3 (O := C + 3992) (X := T + 118) (g := g) (n := n) ⟨hb, .inl (by omega), hB, hT25⟩ hz hT26 ⟨w3, hb.1.2.2.1, l0, l1, w2⟩
  rw [em_X1_load, em_X37_load]; unfold dm_X1_load dm_X37_load
  simp only [jls]
  rw [w4, eu_X37_load_47]; unfold du_X37_load_47
  rw [er, eq, Option.bind_some, Option.bind_some, e_X22_place, e_X42_place, Option.bind_some, Option.bind_some]
  simp only [jls]
  have W : tLd t q.1 T := ⟨jSm.trans (jSm.trans jSm.rfl.jp w1.1) r7.1, fun c a j i1 i2 => by
    rw [r7.2 c a j (by omega) (by omega) (by omega)]
    exact w0 c a j (by omega) (by omega) (by omega)⟩
  have V : jf q.1 41 T 4 = 0 := by rw [r7.2 _ _ _ (by omega) (by omega) (by omega)]; exact wt
  have K : jGw s r.1 1 6 (fun a => a = C ∨ C + 3992 ≤ a ∧ a < C + 4148) := r3.mono (by omega) (by omega) fun a _ z => .inr ⟨z.1, by omega⟩
  have F : Fls r.1 C q.1 T := by
    refine ⟨fun u u0 u1 => ?_, g, n, hb.kp (fun c a j a0 a1 => r6 c a j (by omega) (.inr ⟨by omega, by omega⟩)) r4, by rw [W.2 _ _ _ (by omega) (by omega)]; exact hs, fun j j0 j1 => by rw [W.2 _ _ _ (by omega) (by omega)]; exact hr j j0 j1⟩
    obtain ⟨g', n', p1, p2, p3⟩ := hF.1 u u0 u1
    exact ⟨g', n', p1.kp (fun c a j a0 a1 => r3.2.2 c a j (by unfold fAt at a1; omega) fun z => by unfold fAt at a0; omega) (r3.N (by unfold fAt; omega)) r4, by rw [W.2 _ _ _ (by omega) (by omega)]; exact p2, fun j j0 j1 => by rw [W.2 _ _ _ (by omega) (by omega)]; exact p3 j j0 j1⟩
  have M1 : Mr r.1 (C + 4029) q.1 (T + 130) := hM.kp (by
      obtain ⟨m1, m2, m3, m4⟩ := hM.1
      exact ⟨m1, by have := r3.n; omega, by rw [r3.K (by omega)]; exact m3, fun j j0 j1 => by rw [r3.K (by omega)]; exact m4 j j0 j1⟩) (fun c a a0 a1 => by funext j; exact r3.2.2 c a j (by omega) (by omega)) fun c a a0 a1 => by
    funext j
    rw [r7.2 c a j (by omega) (by omega) (by omega)]
    exact w0 c a j (by omega) (by omega) (by omega)
  have B0 : LdQ s C t T r.1 q.1 := ⟨F, r5, M1, V, ⟨K, r4, fun c k _ => r3.2.2 c C k (by omega) (by omega), fun c a k hk ha => r6 c a k hk (.inl ⟨by omega, by omega⟩)⟩, W⟩
  have B1 := B0.pl (v := jf r.1 26 (C + 3992) 5) (v' := jf q.1 46 (T + 118) 10) hn
  have pl : jf (jp r.1 1 C 11 (jf r.1 26 (C + 3992) 5)) 1 C 11 = jf (jp q.1 41 T 118 (jf q.1 46 (T + 118) 10)) 41 T 118 := by rw [jf_pos ⟨rfl, rfl, rfl⟩, jf_pos ⟨rfl, rfl, rfl⟩, r2]
  rcases r8 with ⟨y1, y2, y3, y4⟩ | ⟨y1, y2, y3⟩
  · have gi := r9 y1
    have I1 : cIm (jp r.1 1 C 11 (jf r.1 26 (C + 3992) 5)) (C + 3992 + 10) (iR g) := y2.keep fun c a k a0 a1 => jf_neg (by omega)
    have J1 : tIm (jp q.1 41 T 118 (jf q.1 46 (T + 118) 10)) (T + 118) 1 (iR g) := y3.kf fun c a k a0 a1 => jf_neg (by omega)
    have T1 : jTt (jp r.1 1 C 11 (jf r.1 26 (C + 3992) 5)) 43 (C + 3992 + 10) := hT10.ext B1.2.2.2.2.1.2.1
    rw [if_pos y1, if_pos (r1 ▸ y1)]
    generalize jp r.1 1 C 11 (jf r.1 26 (C + 3992) 5) = r1' at B1 pl I1 T1 ⊢
    generalize jp q.1 41 T 118 (jf q.1 46 (T + 118) 10) = q1' at B1 pl J1 ⊢
    rw [x_told I1, s_told J1, Option.bind_some, Option.bind_some, jdv_in (by decide), Option.bind_some, Option.bind_some]
    by_cases ce : iR g 2 0 0 % 2 = 0
    · rw [if_pos ((I_rem_0 (jin_p.mp y4.2.1) (by omega) (by omega)).mpr ce), if_pos ((I_rem_0 (jin_p.mp y4.2.1) (by omega) (by omega)).mpr ce)]
      refine jE2_call (l_renew2 (C := C) (T := T) B1.2.2.1 rfl rfl) fun u v ⟨z1, z2, z3, z4⟩ => ?_
      have hC : LdC r1' C q1' T (iR g) := ⟨T1, I1, J1, y4, gi⟩
      refine jE2_mono (ld_all hC ⟨z1, z2, z3, fun k k0 k1 => by rw [if_neg (fun z => by omega)]; exact (z4 k k0 k1).1, fun k k0 k1 => (z4 k k0 k1).2⟩ ce) fun u' v' ⟨x1, x2, x3, x4, x5⟩ => ?_
      exact ⟨x1.trans x2.symm, B1.mc hn C0 x4 x5 x3, by rw [x4.F (by omega), x5.2 _ _ _ (by omega)]; exact pl⟩
    · rw [if_neg (fun z => ce ((I_rem_0 (jin_p.mp y4.2.1) (by omega) (by omega)).mp z)), if_neg (fun z => ce ((I_rem_0 (jin_p.mp y4.2.1) (by omega) (by omega)).mp z))]
      exact jE2_mk rfl rfl ⟨rfl, B1.pl hn, by rw [jf_pos ⟨rfl, rfl, rfl⟩, jf_pos ⟨rfl, rfl, rfl⟩]⟩
  · rw [if_neg y1, if_neg (r1 ▸ y1)]
    exact jE2_mk rfl rfl ⟨r1, B1, pl⟩
end jLoad4
