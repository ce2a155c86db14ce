/-! the shorter word: both calls -/
set_option maxRecDepth 100000
section jShort9
variable {s t : jS} {W V : Int}
/-- what both leave of words -/
def WQ (s : jS) (W : Int) (t : jS) (V : Int) (r q : jS × Int) : Prop := r.2 = q.2 ∧ Wrw s r.1 W ∧ ∃ p, q.1 = pw4 t (V + 2) p
theorem p_least (h : pWd s W) (hR : pRows t (V + 1)) {w kd : Int} (hw : -2147483648 ≤ w ∧ w ≤ 2147483647) (hd : isKd w kd) (h0 : ¬ kd = -1) (hw3 : w % 4 = 3) : jE2 (m_X2_least s W kd w) (m_X38_shrink t V w) (WQ s W t V) := by
  obtain ⟨r0, r1, r2, r3, r4⟩ := isKd_t hd h0
  have r48 := r3 hw3
  simp only [eu_X2_least_3, du_X2_least_3, em_X2_least, dm_X2_least, eu_X38_shrink_3, du_X38_shrink_3, em_X38_shrink, dm_X38_shrink]
  refine jforWW (J := fun _ s' t' => Wrw s s' W ∧ ∃ q, t' = pw4 t (V + 2) q) (fun k => [W, kd, w, k]) (fun k => [V, w, k]) 48 75 (by omega) ?_ ?_ ⟨Wrw.rfl, _, (pw4_self t (V + 2)).symm⟩
  · intro k s' t' k0 k1 ⟨f1, q, f2⟩
    subst f2
    have hk : k = (k.toNat : Int) := by omega
    generalize k.toNat = n at hk
    subst hk
    have hs' := h.keep f1
    have hR' : pRows (pw4 t (V + 2) q) (V + 1) := pRows_pw4 hR (by omega)
    have hA := hs'.1 n (by omega)
    obtain ⟨s1, s2, s3, s4, s5, s6⟩ := hA.2.2.2.2.2.2.2.2.2 (by omega)
    have tsl := (tab_SL n (by omega) (by omega)).1
    obtain ⟨q2, t1, t2⟩ := t_try hR' (k := n) (by omega) (by omega) hw hd h0 hw3
    have hpp : pw4 (pw4 t (V + 2) q) (V + 2) q2 = pw4 t (V + 2) q2 := pw4_pw4 _ _ _ _
    rw [hpp] at t1 t2
    have wi : W32 ((n : Int) + 1) = (n : Int) + 1 := W32_in (by omega) (by omega)
    have hb : b_X2_least_3 s' W kd w n = if (pLK n : Int) = kd then (m_X2_shrunk s' W (jf s' 1008 (W + 23) n) (jf s' 1008 (W + 23) kd) w).bind fun q6 => u_X2_least_46 q6.1 W kd w n q6.2 else u_X2_least_46 s' W kd w n (-1) := by
      unfold b_X2_least_3
      have j6 : jrd s' 11 (jf s' 1008 (W + 23) n) 6 = some (jf s' 11 (jf s' 1008 (W + 23) n) 6) := jrd_in hA.1.1 (show jK s' _ = 11 from hA.1.2.2.1)
      have j0 : jrd s' 13 (jf s' 11 (jf s' 1008 (W + 23) n) 6) 0 = some (pLK n : Int) := by rw [jrd_in s1 s2, s3, tsl]
      rw [if_pos k1, (hs'.1.at (i := (n : Int)) (by omega) k1).1, Option.bind_some, j6, Option.bind_some, j0, Option.bind_some]
      by_cases c : (pLK n : Int) = kd
      · rw [if_pos c, if_pos c, Option.bind_some, (hs'.1.at (i := kd) r0 r1).1, Option.bind_some]
      · rw [if_neg c, if_neg c]
    have nxt : ∀ u : jS, u_X2_least_46 u W kd w n (-1) = some (.inl (u, [W, kd, w, (n : Int) + 1])) := fun u => by
      rw [eu_X2_least_46]; unfold du_X2_least_46
      rw [if_pos rfl, wi]
    by_cases c : (pLK n : Int) = kd
    · have ekd : kd.toNat = pLK n := by omega
      have hT : pTk (pLK n) w = true := by rw [← ekd]; exact r2
      obtain ⟨s2', r, e1, e2, e3, e4⟩ := c_shrunk hs' (k := n) (by omega) (by omega) hw hw3 hT
      rw [if_pos c, ← c, e1, Option.bind_some] at hb
      have ac := acc_iff (k := n) (by omega) (by omega) (w := w)
      rw [ekd] at t1 t2
      rcases accK_dec n w (pPt (pLK n) w) with a | a
      · have a' := ac.mpr a
        have hr := e3 a'
        have hlt := pPut_lt (k := n) (by omega) (Pcs n (pPt (pLK n) w))
        have hsame := acc_same (k := n) (by omega) (by omega) (w := w) (.inr a)
        have hput := hsame.put (by omega)
        refine .inr ⟨some (s2', r), some (pw4 t (V + 2) q2, pPut n (pPt (pLK n) w)), ?_, t1 ⟨c.symm, a⟩, jE2_some.mpr ⟨by rw [hr, hput], f1.trans e2, q2, rfl⟩⟩
        show b_X2_least_3 s' W kd w n = _
        rw [← c, hb, eu_X2_least_46]; unfold du_X2_least_46
        rw [if_neg (by omega)]
      · have hr := e4 (fun z => a (ac.mp z))
        subst hr
        refine .inl ⟨s2', pw4 t (V + 2) q2, ?_, ?_, f1.trans e2, q2, rfl⟩
        · show b_X2_least_3 s' W kd w n = _
          rw [← c, hb, c]; exact nxt s2'
        · show b_X38_shrink_3 (pw4 t (V + 2) q) V w n = _
          exact t2 (fun z => a z.2)
    · rw [if_neg c] at hb
      refine .inl ⟨s', pw4 t (V + 2) q2, ?_, t2 (fun z => c z.1.symm), f1, q2, rfl⟩
      show b_X2_least_3 s' W kd w n = _
      rw [hb]; exact nxt s'
  · intro s' t' ⟨f1, q, f2⟩
    refine ⟨some (s', -1), some (t', -1), ?_, ?_, jE2_some.mpr ⟨rfl, f1, q, f2⟩⟩
    · show b_X2_least_3 s' W kd w 75 = _
      unfold b_X2_least_3
      rw [if_neg (by omega)]
    · show b_X38_shrink_3 t' V w 75 = _
      unfold b_X38_shrink_3
      rw [if_neg (by omega)]
/-- parts of a long word are small -/
theorem long_rng {w : Int} (hw : -2147483648 ≤ w ∧ w ≤ 2147483647) {k : Nat} (hk : k < 48) (ht : pTk k w = true) : (0 ≤ (pPt k w).1 ∧ (pPt k w).1 ≤ 31) ∧ (0 ≤ (pPt k w).2.1 ∧ (pPt k w).2.1 ≤ 31) ∧ (0 ≤ (pPt k w).2.2.1 ∧ (pPt k w).2.2.1 ≤ 31) ∧ -1048576 ≤ (pPt k w).2.2.2 ∧ (pPt k w).2.2.2 ≤ 1048575 := by
  have ho := cLong_ok w
  rw [cLong_k w hw k hk ht] at ho
  exact ⟨ho.1, ho.2.1, ho.2.2.1, ho.2.2.2.1⟩
theorem tab_row : ∀ k, k < 75 → k = 27 ∨ k = 32 ∨ k = 35 ∨ k = 36 → (cFd k 0).1 = 4 ∧ (cFd k 0).2.1 = 0 ∧ (cFd k 1).1 = 4 ∧ (cFd k 1).2.1 = 0 ∧ (cFd k 2).1 = 4 ∧ (cFd k 2).2.1 = 0 ∧ (cFd k 3).1 = 0 := by decide +kernel
theorem row_good {k : Nat} (hk : k = 27 ∨ k = 32 ∨ k = 35 ∨ k = 36) {d a b i : Int} (hd : 0 ≤ d ∧ d ≤ 31) (ha : 0 ≤ a ∧ a ≤ 31) (hb : 0 ≤ b ∧ b ≤ 31) : pGood k (d, a, b, i) = true := by
  have hk' : k < 75 := by omega
  obtain ⟨t0, u0, t1, u1, t2, u2, t3⟩ := tab_row k hk' hk
  rw [good_iff hk']
  intro e he
  have z : ∀ n : Nat, pbt 0 n = 0 := fun n => by unfold pbt; rw [Int.zero_ediv]; rfl
  have : e = 0 ∨ e = 1 ∨ e = 2 ∨ e = 3 := by omega
  rcases this with rfl | rfl | rfl | rfl
  · right; unfold fMay; rw [if_pos t0, u0, z]; exact ⟨hd.1, (show d < 32 by omega), rfl⟩
  · right; unfold fMay; rw [if_pos t1, u1, z]; exact ⟨ha.1, (show a < 32 by omega), rfl⟩
  · right; unfold fMay; rw [if_pos t2, u2, z]; exact ⟨hb.1, (show b < 32 by omega), rfl⟩
  · left; exact t3
/-- a word of a row of registers -/
theorem row_word {k : Nat} (hk : k = 27 ∨ k = 32 ∨ k = 35 ∨ k = 36) {d a b i : Int} (hd : 0 ≤ d ∧ d ≤ 31) (ha : 0 ≤ a ∧ a ≤ 31) (hb : 0 ≤ b ∧ b ≤ 31) : isKd (pPut k (d, a, b, i)) (k : Int) ∧ pPut k (d, a, b, i) % 4 = 3 := by
  have hg := row_good hk hd ha hb (i := i)
  have hr := (rt_k d a b i k (by omega) hg).1
  have h3 := long_3 _ k (by omega) hr
  refine ⟨.inl ⟨by omega, ?_, ?_, by rw [Int.toNat_natCast]; exact hr, fun j j0 j1 z => ?_⟩, h3⟩
  · rw [if_pos h3]; omega
  · rw [if_pos h3]; omega
  · rw [if_pos h3] at j0
    have := pTk_one (pPut_in _ _) (k := j.toNat) (j := k) (by omega) (by omega) z hr
    omega
/-- no short word for what is no word -/
theorem t_none (hR : pRows t (V + 1)) {w : Int} (hw : -2147483648 ≤ w ∧ w ≤ 2147483647) (hd : isKd w (-1)) : ∃ r, m_X38_shrink t V w = some r ∧ ∃ q, r.1 = pw4 t (V + 2) q ∧ r.2 = -1 := by
  simp only [eu_X38_shrink_3, du_X38_shrink_3, em_X38_shrink, dm_X38_shrink]
  have hE : jE (jlpW (jc3 b_X38_shrink_3) [V, w, 48] t) (fun r => ∃ q, r.1 = pw4 t (V + 2) q ∧ r.2 = -1) := by
    refine jforWJ (fun _ u => ∃ q, u = pw4 t (V + 2) q) (fun k => [V, w, k]) 48 75 (by omega) ?_ ?_ ⟨_, (pw4_self t (V + 2)).symm⟩
    · intro k u k0 k1 ⟨q, hq⟩
      subst hq
      have hk : k = (k.toNat : Int) := by omega
      generalize k.toNat = n at hk
      subst hk
      have hR' : pRows (pw4 t (V + 2) q) (V + 1) := pRows_pw4 hR (by omega)
      obtain ⟨q2, r, f1, f2, f3⟩ := t_find hR' hw
      have := isKd_one f2 hd
      subst this
      rw [pw4_pw4] at f1
      refine .inl ⟨pw4 t (V + 2) q2, ?_, q2, rfl⟩
      show b_X38_shrink_3 _ V w n = _
      unfold b_X38_shrink_3
      simp only [eu_X38_shrink_63, du_X38_shrink_63]
      rw [if_pos k1, f1, Option.bind_some, lk38_k _ n (by omega) (by omega), Option.bind_some, if_neg (by omega), W32_in (by omega) (by omega)]
    · intro u ⟨q, hq⟩
      refine ⟨some (u, -1), ?_, jE_some.mpr ⟨q, hq, rfl⟩⟩
      show b_X38_shrink_3 u V w 75 = _
      unfold b_X38_shrink_3
      rw [if_neg (by omega)]
  exact hE
theorem p_shorter (h : pWd s W) (hR : pRows t (V + 1)) {w : Int} (hw : -2147483648 ≤ w ∧ w ≤ 2147483647) : jE2 (m_X2_shorter s W w) (m_X38_shorter t V w) (WQ s W (jp t 42 V 0 0) V) := by
  obtain ⟨kd, c1, c2⟩ := c_kind h.1 hw
  rw [em_X2_shorter, em_X38_shorter]; unfold dm_X2_shorter dm_X38_shorter
  rw [c1, Option.bind_some]
  simp only [jls, e_X38_isLong, I_and_3, Option.bind_some]
  have hR0 : pRows (jp t 42 V 0 0) (V + 1) := fun j a b => by rw [jf_jp, if_neg (by omega)]; exact hR j a b
  have none' : ∀ q, jE2 (some (s, (-1 : Int))) (some (pw4 (jp t 42 V 0 0) (V + 2) q, (-1 : Int))) (WQ s W (jp t 42 V 0 0) V) := fun q => jE2_some.mpr ⟨rfl, Wrw.rfl, q, rfl⟩
  have none0 : jE2 (some (s, (-1 : Int))) (some (jp t 42 V 0 0, (-1 : Int))) (WQ s W (jp t 42 V 0 0) V) := jE2_some.mpr ⟨rfl, Wrw.rfl, _, (pw4_self _ (V + 2)).symm⟩
  by_cases w3 : w % 4 = 3
  · rw [if_pos w3, if_neg (show ¬ (1 : Int) = 0 by omega)]
    by_cases k1 : kd = -1
    · -- no word at all
      rw [if_pos k1]
      obtain ⟨r, e1, q, e2⟩ := t_none hR0 hw (by rw [← k1]; exact c2)
      rw [e1]
      have hR1 : pRows (pw4 (jp t 42 V 0 0) (V + 2) q) (V + 1) := pRows_pw4 hR0 (by omega)
      obtain ⟨q2, r2, f1, f2, f3⟩ := t_find hR1 hw
      have hr2 := isKd_one f2 c2
      rw [Option.bind_some, if_pos e2.2, e2.1, f1, Option.bind_some, jlt_in (by omega) (by omega), Option.bind_some]
      simp only [eu_X38_shorter_110, du_X38_shorter_110, pw4_pw4]
      rw [if_neg (by omega), if_neg (by omega), if_neg (by omega), if_neg (by omega), if_neg (by omega)]
      exact none' q2
    · obtain ⟨r0, r1, r2, r3, r4⟩ := isKd_t c2 k1
      have r48 := r3 w3
      have hpw : pWh w = w := by unfold pWh; rw [if_pos w3]
      rw [if_neg k1, if_pos r48]
      refine jE2_call (p_least h hR0 hw c2 k1 w3) fun a b ⟨e1, e2, p, e3⟩ => ?_
      rw [e1]
      by_cases z : b.2 = -1
      · rw [if_pos z, if_pos z, e3]
        have hR1 : pRows (pw4 (jp t 42 V 0 0) (V + 2) p) (V + 1) := pRows_pw4 hR0 (by omega)
        obtain ⟨q2, k', f1, f2, f3⟩ := t_find hR1 hw
        have hk' := isKd_one f2 c2
        subst hk'
        have hq2 := f3 k1
        rw [pw4_pw4] at f1
        have hu := h.keep e2
        have hA := hu.1.at r0 r1
        have prt : ∀ e : Nat, e < 4 → jct a.1 27 (jf a.1 1008 (W + 23) k') (m_X7_part a.1 (jf a.1 1008 (W + 23) k') w e) = some (p4g (pPt k'.toNat w) e) := fun e he => by
          have := c_part hu.1 hw c2 k1 he
          rw [hpw] at this
          rw [jct_in hA.2.t, this]
        obtain ⟨g0, g1, g2, g3, g4⟩ := long_rng hw (k := k'.toNat) (by omega) r2
        rw [hq2] at f1
        clear hq2
        generalize hP : pPt k'.toNat w = P at *
        rw [hA.1, Option.bind_some, show jct _ 27 _ (m_X7_part a.1 _ w 0) = some P.1 from prt 0 (by omega), Option.bind_some, show jct _ 27 _ (m_X7_part a.1 _ w 1) = some P.2.1 from prt 1 (by omega), Option.bind_some, show jct _ 27 _ (m_X7_part a.1 _ w 2) = some P.2.2.1 from prt 2 (by omega), Option.bind_some]
        have rd : ∀ (u : jS) (Q : jP4) (e : Int), 0 ≤ e → e < 4 → jlt (pw4 u (V + 2) Q) 1000 (V + 2) 4 e = some (p4g Q e.toNat) := fun u Q e a b => by rw [jlt_in a b, jf_pw4, if_pos ⟨rfl, rfl, a, b⟩]
        have wr : ∀ (u : jS) (Q : jP4) (e v : Int), 0 ≤ e → e < 4 → jst (pw4 u (V + 2) Q) 1000 (V + 2) 4 e v = some (pw4 u (V + 2) (p4s Q e.toNat v)) := fun u Q e v a b => by rw [jst_in a b, pw4_put _ _ _ _ a b]
        rw [f1, Option.bind_some, show jlt (pw4 (jp t 42 V 0 0) (V + 2) P) 1000 (V + 2) 4 1 = some P.2.1 from rd _ _ 1 (by omega) (by omega), Option.bind_some]
        -- what follows where nothing is turned round
        have rest : jE2 (u_X2_shorter_118 a.1 W w k' (jf a.1 1008 (W + 23) k') P.1 P.2.1) (u_X38_shorter_110 (pw4 (jp t 42 V 0 0) (V + 2) P) V k' P.2.1) (WQ s W (jp t 42 V 0 0) V) := by
          simp only [eu_X2_shorter_118, du_X2_shorter_118, eu_X38_shorter_110, du_X38_shorter_110]
          have nn : jE2 (some (a.1, (-1 : Int))) (some (pw4 (jp t 42 V 0 0) (V + 2) P, (-1 : Int))) (WQ s W (jp t 42 V 0 0) V) := jE2_some.mpr ⟨rfl, e2, P, rfl⟩
          by_cases c18 : k' = 18
          · rw [if_pos c18, if_pos c18, show jct _ 27 _ (m_X7_part a.1 _ w 3) = some P.2.2.2 from prt 3 (by omega), Option.bind_some, show jlt (pw4 (jp t 42 V 0 0) (V + 2) P) 1000 (V + 2) 4 3 = some P.2.2.2 from rd _ _ 3 (by omega) (by omega), Option.bind_some]
            by_cases i0 : P.2.2.2 = 0
            · rw [if_pos i0, if_pos i0, show jlt (pw4 (jp t 42 V 0 0) (V + 2) P) 1000 (V + 2) 4 0 = some P.1 from rd _ _ 0 (by omega) (by omega), Option.bind_some]
              by_cases d0 : P.1 = 0
              · rw [if_pos d0, if_pos d0]; exact nn
              rw [if_neg d0, if_neg d0]
              by_cases a0 : P.2.1 = 0
              · rw [if_pos a0, if_pos a0]; exact nn
              rw [if_neg a0, if_neg a0, (hu.1.at (i := 27) (by omega) (by omega)).1, Option.bind_some]
              have hg : pGood 27 (P.1, 0, P.2.1, 0) = true := row_good (.inl rfl) g0 (by omega) g1
              have hm := c_made hu.1 (k := 27) (by omega) (by omega) (d := P.1) (a := 0) (b := P.2.1) (i := 0) hg (fun e he => by
                have : e = 0 ∨ e = 1 ∨ e = 2 ∨ e = 3 := by omega
                rcases this with rfl | rfl | rfl | rfl
                · show -2147483648 ≤ P.1 ∧ P.1 ≤ 2147483647; omega
                · show (-2147483648 : Int) ≤ 0 ∧ (0 : Int) ≤ 2147483647; omega
                · show -2147483648 ≤ P.2.1 ∧ P.2.1 ≤ 2147483647; omega
                · show (-2147483648 : Int) ≤ 0 ∧ (0 : Int) ≤ 2147483647; omega)
              have e27 : (27 : Int).toNat = 27 := rfl
              rw [e27] at hm
              rw [hm, Option.bind_some, wr _ _ 1 0 (by omega) (by omega), Option.bind_some, wr _ _ 2 P.2.1 (by omega) (by omega), Option.bind_some]
              have hpp : p4s (p4s P (1 : Int).toNat 0) (2 : Int).toNat P.2.1 = (P.1, 0, P.2.1, P.2.2.2) := rfl
              rw [hpp, i0, s_X38_put _ _ 27 _ hR0 (by omega) (by omega) (fun e he => by
                have : e = 0 ∨ e = 1 ∨ e = 2 ∨ e = 3 := by omega
                rcases this with rfl | rfl | rfl | rfl
                · show -2147483640 ≤ P.1 ∧ P.1 ≤ 2147483647; omega
                · show (-2147483640 : Int) ≤ 0 ∧ (0 : Int) ≤ 2147483647; omega
                · show -2147483640 ≤ P.2.1 ∧ P.2.1 ≤ 2147483647; omega
                · show (-2147483640 : Int) ≤ 0 ∧ (0 : Int) ≤ 2147483647; omega), Option.bind_some, e27]
              obtain ⟨x1, x2⟩ := row_word (k := 27) (.inl rfl) (d := P.1) (a := 0) (b := P.2.1) (i := 0) g0 (by omega) g1
              refine jE2_call (p_least hu (pRows_pw4 hR0 (by omega) : pRows (pw4 (jp t 42 V 0 0) (V + 2) (P.1, 0, P.2.1, 0)) (V + 1)) (pPut_in _ _) x1 (by omega) x2) fun x y ⟨y1, y2, y3, y4⟩ => ?_
              exact jE2_some.mpr ⟨y1, e2.trans y2, y3, by rw [y4, pw4_pw4]⟩
            · rw [if_neg i0, if_neg i0]; exact nn
          · rw [if_neg c18, if_neg c18]; exact nn
        -- two registers turned round
        have turn : k' = 27 ∨ k' = 32 ∨ k' = 35 ∨ k' = 36 → jE2 (u_X2_shorter_92 a.1 W w k' (jf a.1 1008 (W + 23) k') P.1 P.2.1 P.2.2.1) (u_X38_shorter_65 (pw4 (jp t 42 V 0 0) (V + 2) P) V k' P.2.1) (WQ s W (jp t 42 V 0 0) V) := by
          intro hc
          simp only [eu_X2_shorter_92, du_X2_shorter_92, eu_X38_shorter_65, du_X38_shorter_65]
          rw [show jlt (pw4 (jp t 42 V 0 0) (V + 2) P) 1000 (V + 2) 4 0 = some P.1 from rd _ _ 0 (by omega) (by omega), Option.bind_some, show jlt (pw4 (jp t 42 V 0 0) (V + 2) P) 1000 (V + 2) 4 2 = some P.2.2.1 from rd _ _ 2 (by omega) (by omega), Option.bind_some]
          by_cases db : P.1 = P.2.2.1
          · rw [if_pos db, if_pos db, Option.bind_some]
            have hkn : k'.toNat = 27 ∨ k'.toNat = 32 ∨ k'.toNat = 35 ∨ k'.toNat = 36 := by omega
            have hkk : ((k'.toNat : Nat) : Int) = k' := by omega
            have i0 : P.2.2.2 = 0 := by
              have t3 := (tab_row k'.toNat (by omega) hkn).2.2.2.2.2.2
              have hn := nrm_pt (k := k'.toNat) (by omega) r2
              rw [hP] at hn
              have h3 : ¬ pHas k'.toNat 3 = true := fun y => (has_cls (by omega) (by omega)).mp y t3
              have := congrArg (fun x : jP4 => x.2.2.2) hn
              show P.2.2.2 = 0
              rw [← this]
              show (if pHas k'.toNat 3 = true then P.2.2.2 else 0) = 0
              rw [if_neg h3]
            have hg : pGood k'.toNat (P.1, P.2.2.1, P.2.1, 0) = true := row_good hkn g0 g2 g1
            have hm := c_made hu.1 r0 r1 (d := P.1) (a := P.2.2.1) (b := P.2.1) (i := 0) hg (fun e he => by
                have : e = 0 ∨ e = 1 ∨ e = 2 ∨ e = 3 := by omega
                rcases this with rfl | rfl | rfl | rfl
                · show -2147483648 ≤ P.1 ∧ P.1 ≤ 2147483647; omega
                · show -2147483648 ≤ P.2.2.1 ∧ P.2.2.1 ≤ 2147483647; omega
                · show -2147483648 ≤ P.2.1 ∧ P.2.1 ≤ 2147483647; omega
                · show (-2147483648 : Int) ≤ 0 ∧ (0 : Int) ≤ 2147483647; omega)
            rw [hm, Option.bind_some, wr _ _ 1 P.2.2.1 (by omega) (by omega), Option.bind_some, wr _ _ 2 P.2.1 (by omega) (by omega), Option.bind_some]
            have hpp : p4s (p4s P (1 : Int).toNat P.2.2.1) (2 : Int).toNat P.2.1 = (P.1, P.2.2.1, P.2.1, P.2.2.2) := rfl
            rw [hpp, i0, s_X38_put _ _ k' _ hR0 r0 r1 (fun e he => by
                have : e = 0 ∨ e = 1 ∨ e = 2 ∨ e = 3 := by omega
                rcases this with rfl | rfl | rfl | rfl
                · show -2147483640 ≤ P.1 ∧ P.1 ≤ 2147483647; omega
                · show -2147483640 ≤ P.2.2.1 ∧ P.2.2.1 ≤ 2147483647; omega
                · show -2147483640 ≤ P.2.1 ∧ P.2.1 ≤ 2147483647; omega
                · show (-2147483640 : Int) ≤ 0 ∧ (0 : Int) ≤ 2147483647; omega), Option.bind_some]
            obtain ⟨x1, x2⟩ := row_word (k := k'.toNat) hkn (d := P.1) (a := P.2.2.1) (b := P.2.1) (i := 0) g0 g2 g1
            rw [hkk] at x1
            refine jE2_call (p_least hu (pRows_pw4 hR0 (by omega) : pRows (pw4 (jp t 42 V 0 0) (V + 2) (P.1, P.2.2.1, P.2.1, 0)) (V + 1)) (pPut_in _ _) x1 (by omega) x2) fun x y ⟨y1, y2, y3, y4⟩ => ?_
            exact jE2_some.mpr ⟨y1, e2.trans y2, y3, by rw [y4, pw4_pw4]⟩
          · rw [if_neg db, if_neg db]; exact rest
        by_cases q27 : k' = 27
        · rw [if_pos q27, if_pos q27]; exact turn (.inl q27)
        rw [if_neg q27, if_neg q27]
        by_cases q32 : k' = 32
        · rw [if_pos q32, if_pos q32]; exact turn (.inr (.inl q32))
        rw [if_neg q32, if_neg q32]
        by_cases q35 : k' = 35
        · rw [if_pos q35, if_pos q35]; exact turn (.inr (.inr (.inl q35)))
        rw [if_neg q35, if_neg q35]
        by_cases q36 : k' = 36
        · rw [if_pos q36, if_pos q36]; exact turn (.inr (.inr (.inr q36)))
        rw [if_neg q36, if_neg q36]
        exact rest
      · rw [if_neg z, if_neg z]
        exact jE2_some.mpr ⟨rfl, e2, p, e3⟩
  · rw [if_neg w3, if_pos rfl]
    by_cases k1 : kd = -1
    · rw [if_pos k1]; exact none0
    · obtain ⟨r0, r1, r2, r3, r4⟩ := isKd_t c2 k1
      rw [if_neg k1, if_neg (by have := r4 w3; omega)]; exact none0
end jShort9
