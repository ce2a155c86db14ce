/-! instructions by their kind's pattern: the word is put, both sides -/
set_option maxRecDepth 100000
section jByKind
variable {s t u w s1 t1 : jS} {v A H b lo k c a x y d n o j kd mk m i pt J : Int} {l : List Int} {NL : List (List Int)} {I : pI} {OL : List pvO} {SL : List pvS} {z : pvS} {zo : pvO} {Q Q' : jS → jS → Int → Prop} {xx : Option (jS × Bool × Int)} {yy : Option (jS × Int)}
theorem word4 {kn : Nat} {D B C E : Int} (h : AG s t A H b lo NL I OL SL k z) (hk : kn < 75) (hg : pGood kn (D, B, C, E) = true) (hr : ∀ e : Nat, e < 4 → rgJ (p4g (D, B, C, E) e)) :
    m_X2_word s (A + (-4147)) kn D B C E = some (s, false, pPut kn (D, B, C, E)) ∧ ∃ w, m_X37_word t H kn D B C E = some (w, pPut kn (D, B, C, E)) ∧ AG s w A H b lo NL I OL SL k z ∧ tF H t w ∧ emQ A H 0 s t s w ∧ kS H t w := by
  obtain ⟨c1, c2⟩ := h.cx
  have hc := (c_word c1.1 (k := (kn : Int)) (d := D) (a := B) (b := C) (i := E) (fun e he => by have := hr e he; unfold rgJ at this; omega)).2.2 (by omega) (by rw [Int.toNat_natCast]; exact hg)
  have ht := (t_word c2 (k := (kn : Int)) (d := D) (a := B) (b := C) (i := E) hr).2.2 (by omega) (by rw [Int.toNat_natCast]; exact hg)
  rw [Int.toNat_natCast] at hc ht
  refine ⟨hc, jp (pw4 (jp t 42 (H + 4) 0 0) (H + 4 + 2) (D, B, C, E)) 42 (H + 4) 0 0, ?_, ?_⟩
  · rw [em_X37_word]; unfold dm_X37_word
    rw [ht, Option.bind_some]
  · obtain ⟨r1, -, r3, r4⟩ := h.wd (u := s) Wrw.rfl rfl
    have fw : ∀ c a j, ¬ (c = 42 ∧ a = H + 4 ∧ j = 0) → ¬ (c = 1000 ∧ a = H + 6) → jf (jp (pw4 (jp t 42 (H + 4) 0 0) (H + 4 + 2) (D, B, C, E)) 42 (H + 4) 0 0) c a j = jf t c a j := fun c a j z1 z2 => by
      rw [jf_neg (by omega), jf_pw4, if_neg (by omega), jf_neg (by omega)]
    exact ⟨r1, r3, r4, fw _ _ _ (by omega) (by omega), fw _ _ _ (by omega) (by omega), fw _ _ _ (by omega) (by omega), fun i => fw _ _ _ (by omega) (by omega)⟩
/-- an instruction begins -/
theorem started3 (h : AG s t A H b lo NL I OL SL k z) (hI : inI H t) : ∃ u w, m_X33_started s A = some (u, 0) ∧ m_X37_begun t H = some (w, 1) ∧ AG u w A H b lo NL I OL SL k z ∧ cFa A s u 0 0 ∧ tF H t w ∧ emQ A H 1 s t u w ∧ (jf w 41 H 34 = 0 ∧ jf w 1000 (H + 153) 0 = jf w 41 H 47) ∧ ∀ c a j, ¬ (c = 37 ∧ a = A ∧ j = 27) → ¬ (c = 1003 ∧ a = A + 9) → jf u c a j = jf s c a j := by
  obtain ⟨i1, i2, hn⟩ := hI
  obtain ⟨aS, aT, aI, aB, aM, ⟨⟨c1, c2⟩, aSt⟩, aK, aH, a0⟩ := h.1.2.2.2.1
  have h47 : jf t 41 H 47 ≤ 2048 := by rw [← i2]; exact ((aB.2.1 0 (by omega) (by omega)).2.1.2 : _ ≤ szM 0)
  have h32 := aH.2.2
  rw [em_X33_started, em_X37_begun]; unfold dm_X33_started dm_X37_begun
  rw [if_neg (by omega), c1, h32.1]
  generalize hc : jf t 41 H 26 = n at *
  generalize h4 : jf t 41 H 47 = y at *
  obtain ⟨u1, E1⟩ : ∃ u1, u1 = jp s 1003 (A + 9) n y := ⟨_, rfl⟩
  obtain ⟨u2, E2⟩ : ∃ u2, u2 = jp u1 37 A 27 (n + 1) := ⟨_, rfl⟩
  obtain ⟨w1, G1⟩ : ∃ w1, w1 = jp t 1000 (H + 155) n y := ⟨_, rfl⟩
  obtain ⟨w2, G2⟩ : ∃ w2, w2 = jp w1 41 H 26 (n + 1) := ⟨_, rfl⟩
  obtain ⟨f1, p1, -⟩ := jpF E1
  obtain ⟨f2, p2, -⟩ := jpF E2
  obtain ⟨g1, r1, -⟩ := jpF G1
  obtain ⟨g2, r2, -⟩ := jpF G2
  have qu : ∀ c a j, ¬ (c = 37 ∧ a = A ∧ j = 27) → ¬ (c = 1003 ∧ a = A + 9) → jf u2 c a j = jf s c a j := fun c a j z1 z2 => by rw [f2 _ _ _ (by omega), f1 _ _ _ (by omega)]
  have qv : ∀ c a j, ¬ (c = 41 ∧ a = H ∧ j = 26) → ¬ (c = 1000 ∧ a = H + 155) → jf w2 c a j = jf t c a j := fun c a j z1 z2 => by rw [g2 _ _ _ (by omega), g1 _ _ _ (by omega)]
  have cF : cFa A s u2 0 0 := (cFa.rfl.wr E1 (by omega)).wr E2 (by omega)
  have tf : tF H t w2 := (tF.rfl.wr G1 (by omega)).wr G2 (by omega)
  have R : AR u2 w2 A H b lo NL I OL SL k z := h.1.mk cF tf ⟨aS.cg (fun c a j _ => qu _ _ _ (by omega) (by omega)) (fun c a j _ => qv _ _ _ (by omega) (by omega)), aT.cg (fun c a j _ => qu _ _ _ (by omega) (by omega)) (fun c a j _ => qv _ _ _ (by omega) (by omega)) (by rw [qv _ _ _ (by omega) (by omega)]; omega), aI.cg fun a j _ => qv _ _ _ (by omega) (by omega), aB.cg (fun c a j _ => qu _ _ _ (by omega) (by omega)) (fun c a j _ => qv _ _ _ (by omega) (by omega)), aM.cg (fun c a j _ => qu _ _ _ (by omega) (by omega)) (fun c a j _ => qv _ _ _ (by omega) (by omega)), ⟨by rw [p2, r2]; exact ⟨rfl, by omega⟩, fun i i0 i1 => ?_⟩, aK.cg (fun c a j _ => qu _ _ _ (by omega) (by omega)) (fun c a j _ => qv _ _ _ (by omega) (by omega)), aH.cg (fun c a j _ => qu _ _ _ (by omega) (by omega)) (fun c a j _ => qv _ _ _ (by omega) (by omega)) (by rw [qv _ _ _ (by omega) (by omega)]; omega), by rw [qv _ _ _ (by omega) (by omega)]; exact a0⟩
  · refine ⟨u2, w2, ?_, ?_, h.bk R ⟨qu _ _ _ (by omega) (by omega), qu _ _ _ (by omega) (by omega)⟩ ⟨qv _ _ _ (by omega) (by omega), qv _ _ _ (by omega) (by omega)⟩, cF, tf, ⟨fun c a j z1 z2 z3 z4 => qu _ _ _ (by omega) (by omega), fun c a j z1 z2 z3 => qv _ _ _ (by omega) (by omega), by rw [r2, hc]⟩, ⟨by rw [qv _ _ _ (by omega) (by omega), i1], by rw [qv _ _ _ (by omega) (by omega), qv _ _ _ (by omega) (by omega), i2, h4]⟩, qu⟩
    · rw [W16_in (v := y) (by omega) (by omega), W16_in (by omega) (by omega), jst_in c2 (by omega), Option.bind_some, ← E1]
      simp only [jls]
      rw [f1 _ _ _ (by omega), c1, W32_in (by omega) (by omega), ← E2]
    · rw [jst_in c2 (by omega), Option.bind_some, ← G1]
      simp only [jls]
      rw [g1 _ _ _ (by omega), hc, W32_in (by omega) (by omega), ← G2, Wz_1]
  · rw [r2] at i1
    by_cases ci : i = n
    · subst ci
      rw [f2 _ _ _ (by omega), p1, g2 _ _ _ (by omega), r1]
      exact ⟨rfl, h32.2.1, h47⟩
    · rw [f2 _ _ _ (by omega), f1 _ _ _ (by omega), g2 _ _ _ (by omega), g1 _ _ _ (by omega)]
      exact aSt i i0 (by omega)
/-- what an instruction leaves -/
def inQ (t : jS) (H : Int) (u w : jS) (_ : Int) : Prop := jf w 41 H 26 = jf t 41 H 26 + 1
/-- a word with its relocation -/
theorem put_moved {v9 v10 : Int} (h : AG s t A H b lo NL I OL SL k z) (hI : jf t 41 H 34 = 0 ∧ jf t 1000 (H + 153) 0 = jf t 41 H 47) (o0 : 0 ≤ o ∧ o ≤ 60) (d0 : -1 ≤ v9 ∧ v9 < 100) (hx : jin v10) {F : jS × Bool × Int → Option (jS × Bool × Int)} (hF : ∀ u d, F (u, true, d) = some (u, true, d)) (hF2 : ∀ u, (∀ i, jf u 1000 (A + 21) i = jf s 1000 (A + 21) i) → (∀ i, jf u 1000 (A + 20) i = jf s 1000 (A + 20) i) → jf u 37 A 41 = jf s 37 A 41 → jf u 37 A 32 = jf s 37 A 32 → F (u, false, 0) = (m_X33_move u A o (jf s 37 A 32) v9 v10).bind fun q => jth q.2.1 (some (q.1, true, q.2.2)) (some (q.1, false, 0))) (hF3 : ∀ u d, F (u, false, d) = F (u, false, 0)) :
    stO s t A H b lo NL I OL SL k z ((m_X33_putNumber s A x (if x % 4 = 3 then 4 else 2)).bind F) (m_X37_putMoved t H x o v9 v10) fun u w _ => emQ A H 0 s t u w := by
  obtain ⟨aS, aT, aI, aB, aM, aSt, aK, aH, a0⟩ := h.1.2.2.2.1
  have h32 := aH.2.2
  have h47 : jf t 41 H 47 ≤ 2048 := by rw [← hI.2]; exact ((aB.2.1 0 (by omega) (by omega)).2.1.2 : _ ≤ szM 0)
  rw [pm_eq (by omega), hI.1, hI.2]
  have nb : (if x % 4 = 3 then (4 : Int) else 2) = 4 ∨ (if x % 4 = 3 then (4 : Int) else 2) = 2 := by split <;> omega
  generalize (if x % 4 = 3 then (4 : Int) else 2) = n at nb
  refine (putNum2 h (by omega) (by omega) (by omega)).bind hF (fun r => tw0 r) fun u w d g c1 c2 q => ?_
  dsimp only
  rw [hF3, hF2 u (fun i => q.1 _ _ _ (by omega) (by omega)) (fun i => q.1 _ _ _ (by omega) (by omega)) (q.1 _ _ _ (by omega) (by omega)) (q.1 _ _ _ (by omega) (by omega)), if_neg n10, h32.1]
  refine (wmove2 g (by omega) o0 d0 hx).bind (fun _ _ => rfl) (fun r => tw0 r) fun u2 w2 d2 g2 c3 c4 q2 => ?_
  dsimp only
  rw [jth_ff, if_neg n10, Wz_1]
  exact .ret g2 (q.em.trans q2.em)
theorem bk_fin (h : AG s t A H b lo NL I OL SL k z) (hI : inI H t) (hR : oRt s t A H m) (k0 : 0 ≤ kd) (k1 : kd < 75) (hG : ∀ e : Nat, e < 4 → (cFd kd.toNat e).1 = 0 ∨ fMay (cFd kd.toNat e) (jf t 1000 (H + 169) (e : Int))) : stO s t A H b lo NL I OL SL k z (u_X33_byKind_240 s A kd (A + 26) m) ((jlt t 1000 (H + 169) 4 0).bind fun v5 => (jlt t 1000 (H + 169) 4 1).bind fun v6 => (jlt t 1000 (H + 169) 4 2).bind fun v7 => (jlt t 1000 (H + 169) 4 3).bind fun v8 => (m_X37_word t H kd v5 v6 v7 v8).bind fun q9 => (m_X37_begun q9.1 H).bind fun q10 => if q10.2 = 0 then some (q10.1, Wz 0) else if 0 < (jf q10.1 41 H 59) then (m_X37_putMoved q10.1 H q9.2 (jf q10.1 41 H 59) (jf q10.1 41 H 60) (jf q10.1 41 H 61)).bind fun q11 => if q11.2 = 0 then some (q11.1, Wz 0) else some (q11.1, Wz 1) else (m_X37_putPlain q10.1 H q9.2).bind fun q12 => if q12.2 = 0 then some (q12.1, Wz 0) else some (q12.1, Wz 1)) (inQ t H) := by
  obtain ⟨kn, rfl⟩ : ∃ kn : Nat, kd = kn := ⟨kd.toNat, by omega⟩
  rw [Int.toNat_natCast] at hG
  obtain ⟨hP, hM⟩ := hR
  obtain ⟨b0, c0⟩ := hP 0 (by omega) (by omega) id
  obtain ⟨b1, c1⟩ := hP 1 (by omega) (by omega) id
  obtain ⟨b2, c2⟩ := hP 2 (by omega) (by omega) id
  obtain ⟨b3, c3⟩ := hP 3 (by omega) (by omega) id
  have ge : ∀ e : Nat, e < 4 → p4g (jf t 1000 (H + 169) 0, jf t 1000 (H + 169) 1, jf t 1000 (H + 169) 2, jf t 1000 (H + 169) 3) e = jf t 1000 (H + 169) (e : Int) := fun e he => by
    have : e = 0 ∨ e = 1 ∨ e = 2 ∨ e = 3 := by omega
    rcases this with rfl | rfl | rfl | rfl <;> rfl
  have gd : pGood kn (jf t 1000 (H + 169) 0, jf t 1000 (H + 169) 1, jf t 1000 (H + 169) 2, jf t 1000 (H + 169) 3) = true := (good_iff (by omega) _).mpr fun e he => by rw [ge e he]; exact hG e he
  have rg : ∀ e : Nat, e < 4 → rgJ (p4g (jf t 1000 (H + 169) 0, jf t 1000 (H + 169) 1, jf t 1000 (H + 169) 2, jf t 1000 (H + 169) 3) e) := fun e he => by rw [ge e he]; exact (hP e (by omega) (by omega) id).2
  obtain ⟨-, w1, w2, w3, w4, w5, w6⟩ := word4 h (by omega) gd rg
  obtain ⟨pw, pm⟩ := pw_mod (by omega) gd
  rw [jlt_in (by omega) (by omega), Option.bind_some, jlt_in (by omega) (by omega), Option.bind_some, jlt_in (by omega) (by omega), Option.bind_some, jlt_in (by omega) (by omega), Option.bind_some, w2, Option.bind_some]
  dsimp only
  obtain ⟨u2, x2, e1, e2, e3, e4, e5, e6, e7, -⟩ := started3 w3 (hI.ks w6)
  rw [eu_X33_byKind_240]; unfold du_X33_byKind_240
  rw [e1, e2, Option.bind_some, Option.bind_some]
  dsimp only
  rw [if_neg n10]
  have E := w5.trans e6
  have ru : ∀ i, jf u2 1000 (A + 26) i = jf s 1000 (A + 26) i := fun i => E.1 _ _ _ (by omega) (by omega) (by omega) (by omega)
  have sl : ∀ i, ¬ (i = 27 ∨ i = 28) → jf u2 37 A i = jf s 37 A i := fun i hi => E.1 _ _ _ (by omega) (by omega) (by omega) (by omega)
  have xl : ∀ i, ¬ (i = 26 ∨ i = 28) → jf x2 41 H i = jf t 41 H i := fun i hi => E.2.1 _ _ _ (by omega) (by omega) (by omega)
  obtain ⟨wc, -⟩ := word4 e3 (by omega) gd rg
  rw [jlt_in (by omega) (by omega), Option.bind_some, jlt_in (by omega) (by omega), Option.bind_some, jlt_in (by omega) (by omega), Option.bind_some, jlt_in (by omega) (by omega), Option.bind_some, ru, ru, ru, ru, b0, b1, b2, b3, wc, Option.bind_some]
  dsimp only
  rw [jth_ff, sl 41 (by omega), hM.1, xl 59 (by omega), xl 60 (by omega), xl 61 (by omega)]
  generalize pPut kn (jf t 1000 (H + 169) 0, jf t 1000 (H + 169) 1, jf t 1000 (H + 169) 2, jf t 1000 (H + 169) 3) = X at *
  have done : ∀ {xx yy}, stO u2 x2 A H b lo NL I OL SL k z xx yy (fun u w _ => emQ A H 0 u2 x2 u w) → stO s t A H b lo NL I OL SL k z (xx.bind fun q => jth q.2.1 (some (q.1, true, q.2.2)) (some (q.1, false, 0))) (yy.bind fun q11 => if q11.2 = 0 then some (q11.1, Wz 0) else some (q11.1, Wz 1)) (inQ t H) := fun hh => by
    refine stO.pre ?_ e4 (w4.trans e5)
    refine hh.bind (fun _ _ => rfl) (fun r => tw0 r) fun u w d g _ _ q => ?_
    dsimp only
    rw [jth_ff, if_neg n10, Wz_1]
    refine .ret g ?_
    have := (E.trans q).2.2
    unfold inQ; omega
  by_cases cm : 0 < jf t 41 H 59
  · obtain ⟨m0, m1, m2, m3, m4⟩ := hM.2.2 cm
    rw [if_pos cm, if_pos cm, e_X2_size, I_and_3, Option.bind_some]
    have := done (put_moved (v9 := jf t 41 H 60) (v10 := jf t 41 H 61) (o := jf t 41 H 59) (x := X) (F := fun q8 => jth q8.2.1 (some (q8.1, true, q8.2.2)) <| (jlt q8.1 1000 (A + 21) 800 m).bind fun v9 => (jlt q8.1 1000 (A + 20) 800 m).bind fun v10 => (m_X33_move q8.1 A (jf q8.1 37 A 41) (jf q8.1 37 A 32) v9 v10).bind fun q11 => jth q11.2.1 (some (q11.1, true, q11.2.2)) <| some (q11.1, false, 0)) e3 e7 hM.2.1 m3 m4 (fun _ _ => rfl) (fun u h1 h2 h3 h4 => ?_) fun _ _ => rfl)
    · have eq : ∀ {x : Option (jS × Bool × Int)}, x = x := rfl
      rw [Option.bind_assoc] at this
      have fe : (fun q : jS × Bool × Int => (jth q.2.1 (some (q.1, true, q.2.2)) <| (jlt q.1 1000 (A + 21) 800 m).bind fun v9 => (jlt q.1 1000 (A + 20) 800 m).bind fun v10 => (m_X33_move q.1 A (jf q.1 37 A 41) (jf q.1 37 A 32) v9 v10).bind fun q11 => jth q11.2.1 (some (q11.1, true, q11.2.2)) <| some (q11.1, false, 0)).bind fun q => jth q.2.1 (some (q.1, true, q.2.2)) (some (q.1, false, 0))) = fun q : jS × Bool × Int => (jth q.2.1 (some (q.1, true, q.2.2)) <| (jlt q.1 1000 (A + 21) 800 m).bind fun v9 => (jlt q.1 1000 (A + 20) 800 m).bind fun v10 => (m_X33_move q.1 A (jf q.1 37 A 41) (jf q.1 37 A 32) v9 v10).bind fun q11 => jth q11.2.1 (some (q11.1, true, q11.2.2)) <| some (q11.1, false, 0)) := by
        funext q
        obtain ⟨q1, q2, q3⟩ := q
        cases q2 with
        | true => rfl
        | false =>
          dsimp only
          rw [jth_ff, Option.bind_assoc]
          congr 1
          funext v9
          rw [Option.bind_assoc]
          congr 1
          funext v10
          rw [Option.bind_assoc]
          congr 1
          funext p
          obtain ⟨p1, p2, p3⟩ := p
          cases p2 <;> rfl
      rw [fe] at this
      exact this
    · dsimp only
      rw [jth_ff, jlt_in m0.1 m0.2, Option.bind_some, jlt_in m0.1 m0.2, Option.bind_some, h1, h2, h3, h4, sl 41 (by omega), hM.1]
      have r21 : jf u2 1000 (A + 21) m = jf t 41 H 60 := by rw [E.1 _ _ _ (by omega) (by omega) (by omega) (by omega)]; exact m1
      have r20 : jf u2 1000 (A + 20) m = jf t 41 H 61 := by rw [E.1 _ _ _ (by omega) (by omega) (by omega) (by omega)]; exact m2
      rw [r21, r20]
  rw [if_neg cm, if_neg cm]
  by_cases c48 : kn < 48
  · rw [if_pos (show (kn : Int) < 48 by omega)]
    exact done (put_word e3 (by omega) pw (pm.mpr c48))
  · rw [if_neg (show ¬ (kn : Int) < 48 by omega)]
    exact done (put_short e3 (by omega) fun e => c48 (pm.mp e))
theorem c_sorts (h : AG s t A H b lo NL I OL SL k z) (p0 : 0 ≤ pt) (p1 : pt ≤ 16) : ∃ i : Nat, m_X33_sortsOf s A pt = some (jc s i) ∧ pSg s (jc s i) (ptS pt) := by
  rw [em_X33_sortsOf]; unfold dm_X33_sortsOf
  rw [eu_X33_sortsOf_92, eu_X33_sortsOf_104, eu_X33_sortsOf_120]; unfold du_X33_sortsOf_92 du_X33_sortsOf_104 du_X33_sortsOf_120
  have c := fun i hi => h.con.str (i := i) hi
  have hpp : pt = 0 ∨ pt = 1 ∨ pt = 2 ∨ pt = 3 ∨ pt = 4 ∨ pt = 5 ∨ pt = 6 ∨ pt = 7 ∨ pt = 8 ∨ pt = 9 ∨ pt = 10 ∨ pt = 11 ∨ pt = 12 ∨ pt = 13 ∨ pt = 14 ∨ pt = 15 ∨ pt = 16 := by omega
  rcases hpp with rfl | rfl | rfl | rfl | rfl | rfl | rfl | rfl | rfl | rfl | rfl | rfl | rfl | rfl | rfl | rfl | rfl
  · exact ⟨50, rfl, c 50 (by decide)⟩
  · exact ⟨51, rfl, c 51 (by decide)⟩
  · exact ⟨52, rfl, c 52 (by decide)⟩
  · exact ⟨53, rfl, c 53 (by decide)⟩
  · exact ⟨53, rfl, c 53 (by decide)⟩
  · exact ⟨54, rfl, c 54 (by decide)⟩
  · exact ⟨55, rfl, c 55 (by decide)⟩
  · exact ⟨48, rfl, c 48 (by decide)⟩
  · exact ⟨47, rfl, c 47 (by decide)⟩
  · exact ⟨48, rfl, c 48 (by decide)⟩
  · exact ⟨56, rfl, c 56 (by decide)⟩
  · exact ⟨57, rfl, c 57 (by decide)⟩
  · exact ⟨48, rfl, c 48 (by decide)⟩
  · exact ⟨58, rfl, c 58 (by decide)⟩
  · exact ⟨58, rfl, c 58 (by decide)⟩
  · exact ⟨59, rfl, c 59 (by decide)⟩
  · exact ⟨60, rfl, c 60 (by decide)⟩
theorem ptS_ok (p0 : 0 ≤ pt) (p1 : pt ≤ 16) : ptL (ptS pt) := by
  have hpp : pt = 0 ∨ pt = 1 ∨ pt = 2 ∨ pt = 3 ∨ pt = 4 ∨ pt = 5 ∨ pt = 6 ∨ pt = 7 ∨ pt = 8 ∨ pt = 9 ∨ pt = 10 ∨ pt = 11 ∨ pt = 12 ∨ pt = 13 ∨ pt = 14 ∨ pt = 15 ∨ pt = 16 := by omega
  unfold ptL
  rcases hpp with rfl | rfl | rfl | rfl | rfl | rfl | rfl | rfl | rfl | rfl | rfl | rfl | rfl | rfl | rfl | rfl | rfl <;> decide
theorem c_parts (h : AG s t A H b lo NL I OL SL k z) (p0 : 0 ≤ pt) (p1 : pt ≤ 16) : ∃ i : Nat, m_X33_partsOf s A pt = some (jc s i) ∧ ∀ {u w}, AG u w A H b lo NL I OL SL k z → cFa A s u 0 0 → pSg u (jc s i) (ptC pt) := by
  rw [em_X33_partsOf]; unfold dm_X33_partsOf
  rw [eu_X33_partsOf_104]; unfold du_X33_partsOf_104
  have c : ∀ i : Nat, i < 202 → ∀ {u w}, AG u w A H b lo NL I OL SL k z → cFa A s u 0 0 → pSg u (jc s i) (cS i) := fun i hi u w g cf => by
    have e : jc u = jc s := cf.1.2.2.2.2.2
    rw [← e]; exact g.con.str hi
  have hpp : pt = 0 ∨ pt = 1 ∨ pt = 2 ∨ pt = 3 ∨ pt = 4 ∨ pt = 5 ∨ pt = 6 ∨ pt = 7 ∨ pt = 8 ∨ pt = 9 ∨ pt = 10 ∨ pt = 11 ∨ pt = 12 ∨ pt = 13 ∨ pt = 14 ∨ pt = 15 ∨ pt = 16 := by omega
  rcases hpp with rfl | rfl | rfl | rfl | rfl | rfl | rfl | rfl | rfl | rfl | rfl | rfl | rfl | rfl | rfl | rfl | rfl
  · exact ⟨50, rfl, c 50 (by decide)⟩
  · exact ⟨61, rfl, c 61 (by decide)⟩
  · exact ⟨62, rfl, c 62 (by decide)⟩
  · exact ⟨63, rfl, c 63 (by decide)⟩
  · exact ⟨64, rfl, c 64 (by decide)⟩
  · exact ⟨65, rfl, c 65 (by decide)⟩
  · exact ⟨63, rfl, c 63 (by decide)⟩
  · exact ⟨63, rfl, c 63 (by decide)⟩
  · exact ⟨66, rfl, c 66 (by decide)⟩
  · exact ⟨67, rfl, c 67 (by decide)⟩
  · exact ⟨68, rfl, c 68 (by decide)⟩
  · exact ⟨69, rfl, c 69 (by decide)⟩
  · exact ⟨63, rfl, c 63 (by decide)⟩
  · exact ⟨63, rfl, c 63 (by decide)⟩
  · exact ⟨64, rfl, c 64 (by decide)⟩
  · exact ⟨70, rfl, c 70 (by decide)⟩
  · exact ⟨71, rfl, c 71 (by decide)⟩
/-- an instruction by its kind's pattern, both sides -/
theorem byKind2 (h : AG s t A H b lo NL I OL SL k z) (hI : inI H t) (hr : ∀ i, 0 ≤ i → i < 4 → jf t 1000 (H + 169) i = 0) (hz : jf t 41 H 59 = 0) (k0 : 0 ≤ kd) (k1 : kd < 75) : stO s t A H b lo NL I OL SL k z (m_X33_byKind s A kd) (m_X37_byKind t H kd) (inQ t H) := by
  obtain ⟨-, p0, p16⟩ := pat_is kd.toNat (by omega)
  rw [em_X33_byKind, em_X37_byKind]; unfold dm_X33_byKind dm_X37_byKind
  rw [c_about h.wa k0 k1, t_about h.cx.2 k0 k1, Option.bind_some, Option.bind_some]
  generalize hp : (cKd kd.toNat).1 = pt at *
  obtain ⟨w1, G1⟩ : ∃ w1, w1 = jp t 42 (H + 4) 0 0 := ⟨_, rfl⟩
  obtain ⟨g1, r1, -⟩ := jpF G1
  rw [← G1]
  have tf1 : tF H t w1 := tF.rfl.wr G1 (by omega)
  have v1 : opV H t w1 := fun c a i z1 z2 z3 => g1 _ _ _ (by omega)
  have h' : AG s w1 A H b lo NL I OL SL k z := h.scr cFa.rfl opU.rfl tf1 v1
  have hI' := hI.ks v1.ks
  have hr' : ∀ i, 0 ≤ i → i < 4 → jf w1 1000 (H + 169) i = 0 := fun i i0 i1 => by rw [g1 _ _ _ (by omega)]; exact hr i i0 i1
  have hz' : jf w1 41 H 59 = 0 := by rw [g1 _ _ _ (by omega)]; exact hz
  have q26 : jf w1 41 H 26 = jf t 41 H 26 := g1 _ _ _ (by omega)
  suffices hh : stO s w1 A H b lo NL I OL SL k z _ _ (inQ w1 H) from (hh.mono fun u w v q => by unfold inQ at q ⊢; rw [q, q26]).pre cFa.rfl tf1
  clear h hI hr hz r1 v1 q26
  obtain ⟨i, e1, e2⟩ := c_sorts h' p0 p16
  obtain ⟨i2, e3, e4⟩ := c_parts h' p0 p16
  obtain ⟨t1, t2⟩ := c_takes2 (kd := kd) h' e2 (ptS_ok p0 p16)
  dsimp only
  rw [e1, Option.bind_some, y_fits h' k0 k1 hp, Option.bind_some]
  dsimp only
  by_cases ct : z.2.2.2.1 = (ptS pt).length ∧ tkA kd (ptS pt) OL z 0
  rotate_left
  · rw [t2 ct, Option.bind_some, if_pos (zt0 ct)]
    exact .bad0 h' (by decide) fun _ _ => rfl
  rw [t1 ct, Option.bind_some, if_neg (by rw [zt1 ct]; decide), needOk n10]
  dsimp only
  rw [jth_ff, e3, Option.bind_some]
  -- the parts are cleared
  have zs : ∀ (u : jS) (i : Int), 0 ≤ i → i < 4 → u_X33_byKind_41 u A kd pt (jc s i2) (A + 26) i = u_X33_byKind_41 (jp u 1000 (A + 26) i 0) A kd pt (jc s i2) (A + 26) (i + 1) := fun u i i0 i1 => by
    rw [eu_X33_byKind_41]; unfold du_X33_byKind_41
    refine jlpW_l ?_
    show b_X33_byKind_41 u A kd pt (jc s i2) (A + 26) i = _
    unfold b_X33_byKind_41
    rw [if_pos i1, jst_in i0 i1, Option.bind_some, W32_in (by omega) (by omega)]
  have ze : ∀ (u : jS), u_X33_byKind_41 u A kd pt (jc s i2) (A + 26) 4 = u_X33_byKind_59 u A kd pt (jc s i2) (A + 26) := fun u => by
    rw [eu_X33_byKind_41]; unfold du_X33_byKind_41
    refine jlpW_r (r := u_X33_byKind_59 u A kd pt (jc s i2) (A + 26)) ?_
    show b_X33_byKind_41 u A kd pt (jc s i2) (A + 26) 4 = _
    unfold b_X33_byKind_41
    rw [if_neg (by decide)]
  rw [zs _ 0 (by decide) (by decide), zs _ (0 + 1) (by decide) (by decide), zs _ (0 + 1 + 1) (by decide) (by decide), zs _ (0 + 1 + 1 + 1) (by decide) (by decide)]
  have e4' : (0 + 1 + 1 + 1 + 1 : Int) = 4 := rfl
  rw [e4', ze, eu_X33_byKind_59]; unfold du_X33_byKind_59
  simp only [jls]
  obtain ⟨u1, E1⟩ : ∃ u1, u1 = jp s 1000 (A + 26) 0 0 := ⟨_, rfl⟩
  obtain ⟨f1, p1, -⟩ := jpF E1
  rw [← E1]
  obtain ⟨u2, E2⟩ : ∃ u2, u2 = jp u1 1000 (A + 26) (0 + 1) 0 := ⟨_, rfl⟩
  obtain ⟨f2, p2, -⟩ := jpF E2
  rw [← E2]
  obtain ⟨u3, E3⟩ : ∃ u3, u3 = jp u2 1000 (A + 26) (0 + 1 + 1) 0 := ⟨_, rfl⟩
  obtain ⟨f3, p3, -⟩ := jpF E3
  rw [← E3]
  obtain ⟨u4, E4⟩ : ∃ u4, u4 = jp u3 1000 (A + 26) (0 + 1 + 1 + 1) 0 := ⟨_, rfl⟩
  obtain ⟨f4, p4, -⟩ := jpF E4
  rw [← E4]
  obtain ⟨u5, E5⟩ : ∃ u5, u5 = jp u4 37 A 41 0 := ⟨_, rfl⟩
  obtain ⟨f5, p5, -⟩ := jpF E5
  rw [← E5]
  have cF : cFa A s u5 0 0 := ((((cFa.rfl.wr E1 (by omega)).wr E2 (by omega)).wr E3 (by omega)).wr E4 (by omega)).wr E5 (by omega)
  have fu : opU A s u5 := fun c a i z1 z2 => by rw [f5 _ _ _ (by omega), f4 _ _ _ (by omega), f3 _ _ _ (by omega), f2 _ _ _ (by omega), f1 _ _ _ (by omega)]
  have g := h'.scr cF fu tF.rfl opV.rfl
  have rz : ∀ i, 0 ≤ i → i < 4 → jf u5 1000 (A + 26) i = 0 := fun i i0 i1 => by
    have : i = 0 ∨ i = 1 ∨ i = 2 ∨ i = 3 := by omega
    rw [f5 _ _ _ (by omega)]
    rcases this with rfl | rfl | rfl | rfl
    · rw [f4 _ _ _ (by omega), f3 _ _ _ (by omega), f2 _ _ _ (by omega), p1]
    · rw [f4 _ _ _ (by omega), f3 _ _ _ (by omega)]; exact p2
    · rw [f4 _ _ _ (by omega)]; exact p3
    · exact p4
  have R : oRt u5 w1 A H 0 := ⟨fun i i0 i1 _ => by rw [rz i i0 i1, hr' i i0 i1]; exact ⟨rfl, by unfold rgJ; omega⟩, by rw [p5, hz'], by rw [hz']; omega, fun q => by rw [hz'] at q; omega⟩
  refine stO.pre ?_ cF tF.rfl
  refine bk_all g R hz' k0 k1 hp (fun g2 c2 => e4 g2 (cF.tr0 c2)) ct.1 ct.2 (fun r => tw0 r) fun u w m g2 r2 d2 q2 => ?_
  dsimp only
  rw [if_neg n10]
  refine (bk_fin g2 (hI'.ks q2) r2 k0 k1 d2).mono fun u' w' v q => ?_
  unfold inQ at q ⊢
  rw [q, q2.1]
end jByKind
