/-! instructions: words that are put, both sides -/
set_option maxRecDepth 100000
section jTwice
variable {s t u w s1 t1 s0 : jS} {v A H b lo k c a x y d n o j i low kd e m v9 v10 : Int} {kn : Nat} {l : List Int} {NL : List (List Int)} {I : pI} {OL : List pvO} {SL : List pvS} {z : pvS} {zo : pvO} {Q Q' : jS → jS → Int → Prop} {xx : Option (jS × Bool × Int)} {yy : Option (jS × Int)}
theorem finE (h : stO s t A H b lo NL I OL SL k z xx yy Q) (hq : ∀ u w v v', Q u w v → Q u w v') : stO s t A H b lo NL I OL SL k z (xx.bind fun q => jth q.2.1 (some (q.1, true, q.2.2)) (some (q.1, false, 0))) (yy.bind fun q => if q.2 = 0 then some (q.1, Wz 0) else some (q.1, Wz 1)) Q := by
  refine h.bind (fun _ _ => rfl) (fun r => tw0 r) fun u w v g c1 c2 q => ?_
  dsimp only
  rw [jth_ff, if_neg n10, Wz_1]
  exact .ret g (hq _ _ _ _ q)
theorem finW (h : stO s t A H b lo NL I OL SL k z xx yy Q) (hq : ∀ u w v v', Q u w v → Q u w v') : stO s t A H b lo NL I OL SL k z (xx.bind fun q => jth q.2.1 (some (q.1, true, q.2.2)) (some (q.1, false, 0))) (yy.bind fun q => some (q.1, Wz q.2)) Q := by
  refine h.bind (fun _ _ => rfl) (fun r => tw1 r) fun u w v g c1 c2 q => ?_
  dsimp only
  rw [jth_ff, Wz_1]
  exact .ret g (hq _ _ _ _ q)
theorem finC (h : stO s t A H b lo NL I OL SL k z xx yy Q) (hq : ∀ u w v v', Q u w v → Q u w v') : stO s t A H b lo NL I OL SL k z (xx.bind fun q => jth q.2.1 (some (q.1, true, q.2.2)) (some (q.1, false, 0))) yy Q := by
  rcases h with ⟨q, r, e1, e2, e3⟩ | ⟨u', w', v', d1, d2, d3, d4, d5, d6⟩
  · exact .inl ⟨q, r, by rw [e1, Option.bind_some, e3.th]; rfl, e2, e3⟩
  · exact .inr ⟨u', w', 0, by rw [d1, Option.bind_some]; rfl, d2, d3, d4, d5, hq _ _ _ _ d6⟩
theorem finY0 (h : stO s t A H b lo NL I OL SL k z xx yy Q) : stO s t A H b lo NL I OL SL k z xx (yy.bind fun q => some (q.1, Wz q.2)) Q := by
  rcases h with ⟨q, r, e1, e2, e3⟩ | ⟨u', w', v', d1, d2, d3, d4, d5, d6⟩
  · exact .inl ⟨q, r, e1, by rw [e2, Option.bind_some]; exact tw1 r, e3⟩
  · exact .inr ⟨u', w', v', d1, by rw [d2, Option.bind_some, Wz_1], d3, d4, d5, d6⟩
theorem finY1 (h : stO s t A H b lo NL I OL SL k z xx yy Q) : stO s t A H b lo NL I OL SL k z xx (yy.bind fun q => if q.2 = 0 then some (q.1, Wz 0) else some (q.1, Wz 1)) Q := by
  rcases h with ⟨q, r, e1, e2, e3⟩ | ⟨u', w', v', d1, d2, d3, d4, d5, d6⟩
  · exact .inl ⟨q, r, e1, by rw [e2, Option.bind_some]; exact tw0 r, e3⟩
  · exact .inr ⟨u', w', v', d1, by rw [d2, Option.bind_some, if_neg n10, Wz_1], d3, d4, d5, d6⟩
theorem inQ.any : ∀ u w v v', inQ t H u w v → inQ t H u w v' := fun _ _ _ _ h => h
theorem inQ.of (h : jf w 41 H 26 = jf t 41 H 26) : ∀ u' w' v, inQ w H u' w' v → inQ t H u' w' v := fun u' w' v q => by unfold inQ at q ⊢; rw [q, h]
-- words that are good
theorem tb48 : ∀ k : Nat, k < 48 → (∀ e : Nat, e < 3 → (cFd k e).1 = 0 ∨ (cFd k e).1 = 4 ∧ (cFd k e).2.1 = 0) ∧ ((cFd k 3).1 = 0 ∨ (cFd k 3).1 = 6) := by decide +kernel
theorem gd48 (hk : kn < 48) (d0 : 0 ≤ d ∧ d ≤ 31) (a0 : 0 ≤ a ∧ a ≤ 31) (b0 : 0 ≤ b ∧ b ≤ 31) (hi : (cFd kn 3).1 = 0 ∨ fMay (cFd kn 3) i) : pGood kn (d, a, b, i) = true := by
  obtain ⟨t1, t2⟩ := tb48 kn hk
  have rg : ∀ e : Nat, e < 3 → ∀ x, 0 ≤ x → x ≤ 31 → (cFd kn e).1 = 0 ∨ fMay (cFd kn e) x := fun e he x x0 x1 => (t1 e he).imp_right fun ⟨q1, q2⟩ => by
    unfold fMay
    rw [if_pos q1, q2]
    refine ⟨x0, by omega, ?_⟩
    unfold pbt; simp
  refine (good_iff (by omega) _).mpr fun e he => ?_
  have : e = 0 ∨ e = 1 ∨ e = 2 ∨ e = 3 := by omega
  rcases this with rfl | rfl | rfl | rfl
  · exact rg 0 (by decide) d d0.1 d0.2
  · exact rg 1 (by decide) a a0.1 a0.2
  · exact rg 2 (by decide) b b0.1 b0.2
  · exact hi
theorem gd0 (hk : kn < 48) : (cFd kn 3).1 = 0 ∨ fMay (cFd kn 3) 0 := (tb48 kn hk).2.imp_right may_0
theorem rg4 (d0 : 0 ≤ d ∧ d ≤ 31) (a0 : 0 ≤ a ∧ a ≤ 31) (b0 : 0 ≤ b ∧ b ≤ 31) (hi : rgJ i) : ∀ e : Nat, e < 4 → rgJ (p4g (d, a, b, i) e) := fun e he => by
  have : e = 0 ∨ e = 1 ∨ e = 2 ∨ e = 3 := by omega
  rcases this with rfl | rfl | rfl | rfl
  · show rgJ d; unfold rgJ; omega
  · show rgJ a; unfold rgJ; omega
  · show rgJ b; unfold rgJ; omega
  · exact hi
/-- a word and its relocation -/
theorem putM {F f2 : jS × Bool × Int → Option (jS × Bool × Int)} {g : jS × Int → Option (jS × Int)} (h : AG s t A H b lo NL I OL SL k z) (h34 : jf t 41 H 34 = 0) (hx4 : x % 4 = 3) (o0 : 0 ≤ o ∧ o ≤ 60) (d0 : -1 ≤ v9 ∧ v9 < 100) (hx : jin v10) (hF : ∀ u d, F (u, true, d) = some (u, true, d)) (hf2 : ∀ u d, f2 (u, true, d) = some (u, true, d)) (hg : ∀ r, g (r, 0) = some (r, 0))
    (hF2 : ∀ u d, puU A s u → F (u, false, d) = (m_X33_move u A o (jf t 1000 (H + 153) 0) v9 v10).bind f2)
    (hc : ∀ u w d, AG u w A H b lo NL I OL SL k z → cFa A s u 0 0 → tF H t w → emQ A H 0 s t u w → stO u w A H b lo NL I OL SL k z (f2 (u, false, d)) (g (w, 1)) Q) :
    stO s t A H b lo NL I OL SL k z ((m_X33_putNumber s A x 4).bind F) ((m_X37_putMoved t H x o v9 v10).bind g) Q := by
  obtain ⟨aS, aT, aI, aB, aM, aSt, aK, aH, a0⟩ := h.1.2.2.2.1
  have hsz : jf t 1000 (H + 153) 0 ≤ 2048 := (aB.2.1 0 (by omega) (by omega)).2.1.2
  have hs0 := (aB.2.1 0 (by omega) (by omega)).2.1.1
  rw [pm_eq (by omega), h34, if_pos hx4, Option.bind_assoc]
  have hg0 : ∀ {R : Option (jS × Int)} (r : jS), (if (r, (0 : Int)).2 = 0 then some ((r, (0 : Int)).1, Wz 0) else R).bind g = some (r, 0) := fun r => by rw [if_pos rfl, Wz_0, Option.bind_some]; exact hg _
  refine (putNum2 h (by omega) (by omega) (by omega)).bind hF (fun r => hg0 r) fun u w d gg c1 c2 q => ?_
  dsimp only
  rw [hF2 u d q.1, if_neg n10, Option.bind_assoc]
  refine (wmove2 gg (by omega) o0 d0 hx).bind hf2 (fun r => hg0 r) fun u2 w2 d2 g2 c3 c4 q2 => ?_
  dsimp only
  rw [if_neg n10, Wz_1, Option.bind_some]
  exact hc u2 w2 d2 g2 (c1.tr0 c3) (c2.trans c4) (q.em.trans q2.em)
/-- a word alone -/
theorem wordP {f : jS × Bool × Int → Option (jS × Bool × Int)} {g : jS × Int → Option (jS × Int)} {D B C E : Int} (h : AG s t A H b lo NL I OL SL k z) (h34 : jf t 41 H 34 = 0) (hk : kn < 48) (gd : pGood kn (D, B, C, E) = true) (rg : ∀ e : Nat, e < 4 → rgJ (p4g (D, B, C, E) e)) (hf : ∀ u d, f (u, true, d) = some (u, true, d)) (hg : ∀ r, g (r, 0) = some (r, 0))
    (hc : ∀ u w d, AG u w A H b lo NL I OL SL k z → emQ A H 0 s t u w → stO u w A H b lo NL I OL SL k z (f (u, false, d)) (g (w, 1)) Q) :
    stO s t A H b lo NL I OL SL k z ((m_X2_word s (A + (-4147)) kn D B C E).bind fun q1 => jth q1.2.1 (some (q1.1, true, q1.2.2)) ((m_X33_word q1.1 A q1.2.2).bind f)) ((m_X37_word t H kn D B C E).bind fun q2 => (m_X37_putPlain q2.1 H q2.2).bind g) Q := by
  obtain ⟨w0, w1, w2, w3, w4, w5, w6⟩ := word4 h (by omega) gd rg
  obtain ⟨pw, pm⟩ := pw_mod (by omega) gd
  rw [w0, w2, Option.bind_some, Option.bind_some]
  dsimp only
  rw [jth_ff]
  refine stO.pre ?_ cFa.rfl w4
  have q34 : jf w1 41 H 34 = 0 := by rw [w6.2.1, h34]
  exact (put_word w3 (by omega) pw (pm.mpr hk)).bind hf hg fun u w d gg c1 c2 q => hc u w d gg (w5.trans q)
/-- one word begins and is put: the component's started, word, word's put -/
theorem oneW {D B C E : Int} (h : AG s t A H b lo NL I OL SL k z) (hI : inI H t) (hst : m_X33_started s A = some (s0, 0)) (hk : kn < 48) (gd : pGood kn (D, B, C, E) = true) (rg : ∀ e : Nat, e < 4 → rgJ (p4g (D, B, C, E) e)) :
    stO s t A H b lo NL I OL SL k z ((m_X2_word s0 (A + (-4147)) kn D B C E).bind fun q1 => jth q1.2.1 (some (q1.1, true, q1.2.2)) ((m_X33_word q1.1 A q1.2.2).bind fun q2 => jth q2.2.1 (some (q2.1, true, q2.2.2)) (some (q2.1, false, 0)))) (m_X37_one t H kn D B C E) (inQ t H) := by
  obtain ⟨u1, w1, e1, e2, e3, e4, e5, e6, e7, -⟩ := started3 h hI
  rw [hst] at e1
  have es : s0 = u1 := congrArg Prod.fst (Option.some.inj e1)
  subst es
  rw [em_X37_one]; unfold dm_X37_one
  rw [e2, Option.bind_some]
  dsimp only
  rw [if_neg n10]
  refine stO.pre ?_ e4 e5
  refine wordP e3 e7.1 hk gd rg (fun _ _ => rfl) (fun r => tw0 r) fun u w d g q => ?_
  dsimp only
  rw [jth_ff, if_neg n10, Wz_1]
  refine .ret g ?_
  have := (e6.trans q).2.2
  unfold inQ; omega
theorem sumW {D B E : Int} (h : AG s t A H b lo NL I OL SL k z) (hI : inI H t) (hst : m_X33_started s A = some (s0, 0)) (hk : kn < 48) (gd : pGood kn (D, B, 0, E) = true) (rg : ∀ e : Nat, e < 4 → rgJ (p4g (D, B, 0, E) e)) :
    stO s t A H b lo NL I OL SL k z (m_X33_sum s0 A kn D B E) (m_X37_one t H kn D B 0 E) (inQ t H) := by
  rw [em_X33_sum]; unfold dm_X33_sum
  exact oneW h hI hst hk gd rg
/-- a jump or branch -/
theorem jmpC {R : jS → Option (jS × Bool × Int)} {D B C : Int} (h : AG s t A H b lo NL I OL SL k z) (hI : inI H t) (hst : m_X33_started s A = some (s0, 0)) (hk : kn < 48) (D0 : 0 ≤ D ∧ D ≤ 31) (B0 : 0 ≤ B ∧ B ≤ 31) (C0 : 0 ≤ C ∧ C ≤ 31) (o0 : 0 ≤ o ∧ o ≤ 60) (j0 : 0 ≤ j) (j1 : j < 800) (hE : vlE s t A H j) (hv : vGo (jf t 41 H 12) (jf t 41 H 52, jf t 41 H 53, jf t 41 H 54))
    (hR : ∀ u, jf u 37 A 35 = jf s 37 A 35 → R u = (jlt u 1000 (A + 21) 800 j).bind fun v1 => (jlt u 1000 (A + 20) 800 j).bind fun v2 => (m_X33_move u A o (jf u 37 A 32) v1 v2).bind fun q3 => jth q3.2.1 (some (q3.1, true, q3.2.2)) (some (q3.1, false, 0))) :
    stO s t A H b lo NL I OL SL k z ((m_X2_word s0 (A + (-4147)) kn D B C 0).bind fun q5 => jth q5.2.1 (some (q5.1, true, q5.2.2)) ((m_X33_putNumber q5.1 A q5.2.2 4).bind fun q6 => jth q6.2.1 (some (q6.1, true, q6.2.2)) (R q6.1))) (m_X37_oneMoved t H kn D B C o) (inQ t H) := by
  have hs12 := h.1.2.2.2.1.1.2.1
  obtain ⟨u1, w1, e1, e2, e3, e4, e5, e6, e7, e8⟩ := started3 h hI
  rw [hst] at e1
  have es : s0 = u1 := congrArg Prod.fst (Option.some.inj e1)
  subst es
  have gd := gd48 hk D0 B0 C0 (gd0 hk)
  have rg := rg4 D0 B0 C0 (show rgJ 0 from ⟨by decide, by decide⟩)
  rw [em_X37_oneMoved]; unfold dm_X37_oneMoved
  rw [e2, Option.bind_some]
  dsimp only
  rw [if_neg n10]
  refine stO.pre ?_ e4 e5
  obtain ⟨x0, x1, x2, x3, x4, x5, x6⟩ := word4 e3 (by omega) gd rg
  obtain ⟨pw, pm⟩ := pw_mod (by omega) gd
  rw [x0, x2, Option.bind_some, Option.bind_some]
  dsimp only
  rw [jth_ff]
  refine stO.pre ?_ cFa.rfl x4
  have xl : ∀ i, ¬ (i = 26 ∨ i = 28) → jf x1 41 H i = jf t 41 H i := fun i hi => (e6.trans x5).2.1 _ _ _ (by omega) (by omega) (by omega)
  have h32 := x3.1.2.2.2.1.2.2.2.2.2.2.2.1.2.2.1
  obtain ⟨E0, E1, -⟩ := hE
  obtain ⟨v0, v1, -⟩ := hv
  dsimp only at v0 v1
  refine putM (v9 := jf x1 41 H 53) (v10 := jf x1 41 H 52) (f2 := fun q3 => jth q3.2.1 (some (q3.1, true, q3.2.2)) (some (q3.1, false, 0))) x3 (by rw [x6.2.1, e7.1]) (pm.mpr hk) o0 (by rw [xl 53 (by omega)]; omega) (by rw [xl 52 (by omega)]; exact v0) (fun _ _ => rfl) (fun _ _ => rfl) (fun r => tw0 r) (fun u d p => ?_) fun u w d g c1 c2 q => ?_
  · dsimp only
    rw [jth_ff, hR u (by rw [p _ _ _ (by omega) (by omega), e8 _ _ _ (by omega) (by omega)]), jlt_in j0 j1, Option.bind_some, jlt_in j0 j1, Option.bind_some, p _ _ _ (by omega) (by omega), p _ _ _ (by omega) (by omega), p _ _ _ (by omega) (by omega), h32, e8 _ _ _ (by omega) (by omega), e8 _ _ _ (by omega) (by omega), E0, E1, xl 53 (by omega), xl 52 (by omega), x6.2.2.1, x6.2.2.2, e7.2]
  · dsimp only
    rw [jth_ff, if_neg n10, Wz_1]
    refine .ret g ?_
    have := ((e6.trans x5).trans q).2.2
    unfold inQ; omega
/-- two words with two relocations that belong together -/
theorem twC {D B C : Int} (h : AG s t A H b lo NL I OL SL k z) (hI : inI H t) (hst : m_X33_started s A = some (s0, 0)) (hk : kn < 48) (D0 : 0 ≤ D ∧ D ≤ 31) (B0 : 0 ≤ B ∧ B ≤ 31) (C0 : 0 ≤ C ∧ C ≤ 31) (o0 : 0 < low ∧ low ≤ 60) (j0 : 0 ≤ j) (j1 : j < 800) (hE : vlE s t A H j) (hv : vGo (jf t 41 H 12) (jf t 41 H 52, jf t 41 H 53, jf t 41 H 54)) :
    stO s t A H b lo NL I OL SL k z (m_X33_twice s0 A 23 low kn D B C j) ((m_X37_word t H kn D B C 0).bind fun q4 => m_X37_pair q4.1 H B q4.2 low) (inQ t H) := by
  have gd := gd48 hk D0 B0 C0 (gd0 hk)
  have z31 : (0 : Int) ≤ 0 ∧ (0 : Int) ≤ 31 := ⟨by decide, by decide⟩
  have r0 : rgJ 0 := ⟨by decide, by decide⟩
  have rg := rg4 D0 B0 C0 r0
  have gd1 : pGood 1 (B, 0, 0, 0) = true := gd48 (by decide) B0 z31 z31 (gd0 (by decide))
  have rg1 := rg4 B0 z31 z31 r0
  obtain ⟨x0, x1, x2, x3, x4, x5, x6⟩ := word4 h (by omega) gd rg
  obtain ⟨pw, pm⟩ := pw_mod (by omega) gd
  rw [x2, Option.bind_some]
  dsimp only
  refine stO.pre ?_ cFa.rfl x4
  rw [em_X33_twice, em_X37_pair]; unfold dm_X33_twice dm_X37_pair
  rw [if_pos rfl]
  rcases hereB x3 (hI.ks x6) with ⟨q, r, d1, d2, d3⟩ | ⟨s0', u2, w0, w2, i, d0, d1, d2, d3, d4, d5, d6, d7, d8, d9, d10⟩
  · rw [hst, Option.bind_some] at d1
    dsimp only at d1
    rw [d1, d2, Option.bind_some, Option.bind_some, if_pos rfl, Wz_0, d3.th]
    refine .inl ⟨q, r, ?_, rfl, d3⟩
    show some (q.1, true, q.2.2) = some q
    rw [← d3.th]
  rw [hst] at d0
  have es : s0 = s0' := congrArg Prod.fst (Option.some.inj d0)
  subst es
  rw [d1, d2, Option.bind_some, Option.bind_some]
  dsimp only
  rw [jth_ff, if_neg (by omega), d3, Option.bind_some]
  dsimp only
  rw [if_neg n10, eu_X33_twice_14]; unfold du_X33_twice_14
  refine stO.pre ?_ d5 d6
  obtain ⟨y0, y1, y2, y3, y4, y5, y6⟩ := word4 (kn := 1) d4 (by decide) gd1 rg1
  obtain ⟨pw1, pm1⟩ := pw_mod (kn := 1) (by decide) gd1
  have y0 : m_X2_word u2 (A + (-4147)) 1 B 0 0 0 = some (u2, false, pPut 1 (B, 0, 0, 0)) := y0
  have y2 : m_X37_word w2 H 1 B 0 0 0 = some (y1, pPut 1 (B, 0, 0, 0)) := y2
  rw [y0, y2, Option.bind_some, Option.bind_some]
  dsimp only
  rw [jth_ff]
  refine stO.pre ?_ cFa.rfl y4
  obtain ⟨E0, E1, -⟩ := hE
  obtain ⟨v0, v1, -⟩ := hv
  dsimp only at v0 v1
  have hs12 := h.1.2.2.2.1.1.2.1
  have q52 : jf x1 41 H 52 = jf t 41 H 52 := x5.2.1 _ _ _ (by omega) (by omega) (by omega)
  have q53 : jf x1 41 H 53 = jf t 41 H 53 := x5.2.1 _ _ _ (by omega) (by omega) (by omega)
  have q34 : jf y1 41 H 34 = 0 := by rw [y6.2.1, d9 _ _ _ (by omega) (by omega), x6.2.1]; exact hI.1
  have h32 := y3.1.2.2.2.1.2.2.2.2.2.2.2.1.2.2.1
  have h47 : jf y1 41 H 47 = jf y1 1000 (H + 153) 0 := by rw [y6.2.2.1, y6.2.2.2, d9 _ _ _ (by omega) (by omega), d9 _ _ _ (by omega) (by omega), x6.2.2.1, x6.2.2.2]; exact hI.2.1.symm
  refine putM (v9 := jf x1 41 H 53) (v10 := jf x1 41 H 52) (o := 23) (f2 := fun q5 => jth q5.2.1 (some (q5.1, true, q5.2.2)) ((jlt q5.1 1000 (A + 7) 4 0).bind fun v6 => (m_X2_word q5.1 (A + (-4147)) kn D B C 0).bind fun q7 => jth q7.2.1 (some (q7.1, true, q7.2.2)) ((m_X33_putNumber q7.1 A q7.2.2 4).bind fun q8 => jth q8.2.1 (some (q8.1, true, q8.2.2)) (if 0 < low then (m_X33_move q8.1 A low v6 i 0).bind fun q9 => jth q9.2.1 (some (q9.1, true, q9.2.2)) (some (q9.1, false, 0)) else some (q8.1, false, 0))))) y3 q34 (pm1.mpr (by decide)) (by omega) (by rw [q53]; omega) (by rw [q52]; exact v0) (fun _ _ => rfl) (fun _ _ => rfl) (fun r => tw0 r) (fun u d p => ?_) fun u4 w4 d g c1 c2 q => ?_
  · dsimp only
    rw [jth_ff, jlt_in j0 j1, Option.bind_some, jlt_in j0 j1, Option.bind_some, p _ _ _ (by omega) (by omega), p _ _ _ (by omega) (by omega), p _ _ _ (by omega) (by omega), h32, h47, d8 _ _ _ (by omega) (by omega) (by omega) (by omega), d8 _ _ _ (by omega) (by omega) (by omega) (by omega), E0, E1, q52, q53]
  dsimp only
  rw [jth_ff, if_neg n10, jlt_in (by omega) (by omega), Option.bind_some]
  obtain ⟨z0, -⟩ := word4 (kn := kn) g (by omega) gd rg
  rw [z0, Option.bind_some]
  dsimp only
  rw [jth_ff]
  have a7 : jf u4 1000 (A + 7) 0 = jf w4 1000 (H + 153) 0 := (g.1.2.2.2.1.2.2.2.1.2.1 0 (by omega) (by omega)).1
  refine putM (v9 := i) (v10 := 0) (o := low) (f2 := fun q9 => jth q9.2.1 (some (q9.1, true, q9.2.2)) (some (q9.1, false, 0))) g (by rw [q.2.1 _ _ _ (by omega) (by omega) (by omega), q34]) (pm.mpr hk) (by omega) (by omega) ⟨by decide, by decide⟩ (fun _ _ => rfl) (fun _ _ => rfl) (fun r => tw0 r) (fun u d p => ?_) fun u6 w6 d6 g6 c6 c7 q6 => ?_
  · dsimp only
    rw [jth_ff, if_pos o0.1, a7]
  dsimp only
  rw [jth_ff, if_neg n10, Wz_1]
  refine .ret g6 ?_
  have e1 := ((y5.trans q).trans q6).2.2
  have e2 := x5.2.2
  unfold inQ; omega
end jTwice
