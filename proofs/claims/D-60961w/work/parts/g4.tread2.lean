/-! the twin reads all lines, and the whole -/
section jTread2
variable {s t u w v' : jS} {U n p p' q' r k c f v y e d o z a a' b' pl ln cnt h : Int} {g : Int → Int} {l m : List Int} {NL : List (List Int)} {W : wR4} {st st' : pS} {I I' E L L1 L2 : pI} {q : qS} {OL : List pvO} {SL SL0 : List pvS} {x : pvS} {b : pvB}
/-- before a line's first word -/
def tPre (t : jS) (U : Int) (g : Int → Int) (n p : Int) (NL : List (List Int)) (cnt h : Int) (I : pI) : Prop := tdI t U g n ∧ jf t 43 U 18 = p ∧ (0 ≤ p ∧ p ≤ n) ∧ jf t 43 U 20 = 0 ∧ nmR t U NL ∧ (jf t 43 U 24 = cnt ∧ jf t 43 U 25 = h ∧ 0 ≤ cnt ∧ 0 ≤ cnt ∧ cnt ≤ 2000) ∧ itR t U I ∧ I.length ≤ cnt
theorem tPre.next (T : tPre t U g n p NL cnt h I) : ∃ w z, m_X39_next t U = some (w, z) ∧ tB w U g n (p, NL, cnt, h) I ∧ yRd t w U := by
  obtain ⟨T1, T2, T3, T4, T5, T6, T7, T9⟩ := T
  obtain ⟨q, e, K, hk⟩ := y_next T1 T2 T3.1 T3.2
  have F : ∀ c a j, ¬ (c = 43 ∧ a = U ∧ (j = 11 ∨ 15 ≤ j ∧ j ≤ 18)) → ¬ (c = 1000 ∧ a = U + 15) → jf q.1 c a j = jf t c a j := K.2
  exact ⟨q.1, q.2, e, ⟨T1.kp K, hk, T3, by rw [F _ _ _ (by omega) (by omega)]; exact T4, ⟨by rw [F _ _ _ (by omega) (by omega)]; exact T5.1, T5.2.1, fun i hi => ⟨(T5.2.2 i hi).1, by rw [F _ _ _ (by omega) (by omega)]; exact (T5.2.2 i hi).2.1, fun j hj => by rw [F _ _ _ (by omega) (by omega)]; exact (T5.2.2 i hi).2.2 j hj⟩⟩, ⟨by rw [F _ _ _ (by omega) (by omega)]; exact T6.1, by rw [F _ _ _ (by omega) (by omega)]; exact T6.2.1, T6.2.2⟩, ⟨by rw [F _ _ _ (by omega) (by omega)]; exact T7.1, fun i hi => by rw [F _ _ _ (by omega) (by omega), F _ _ _ (by omega) (by omega)]; exact T7.2 i hi⟩, T9⟩, K⟩
/-- what reading lines may write -/
def yR (t w : jS) (U : Int) : Prop := jSm t w ∧ ∀ c a k, ¬ (c = 43 ∧ a = U ∧ (k = 11 ∨ k = 12 ∨ 15 ≤ k ∧ k ≤ 21 ∨ 23 ≤ k ∧ k ≤ 27)) → ¬ (c = 1000 ∧ (a = U + 15 ∨ a = U + 10 ∨ a = U + 6 ∧ k < 4000 ∨ a = U + 7 ∧ k < 2400 ∨ a = U + 8 ∧ k < 150 ∨ a = U + 5 ∧ k < 5600 ∨ a = U + 16 ∧ k < 800 ∨ a = U + 9 ∧ k < 3000 ∨ a = U + 4 ∧ k < 2400)) → ¬ (c = 1000 ∧ a = U + 3 ∧ 0 ≤ k ∧ k < 4) → jf w c a k = jf t c a k
theorem yR.rfl : yR t t U := ⟨jSm.rfl, fun _ _ _ _ _ _ => Eq.refl _⟩
theorem yR.trans (h : yR t u U) (k : yR u w U) : yR t w U := ⟨jSm.trans h.1 k.1, fun c a j z z1 z2 => (k.2 c a j z z1 z2).trans (h.2 c a j z z1 z2)⟩
theorem yA.yr (h : yA t w U) : yR t w U := ⟨h.1, fun c a k z z1 z2 => h.2 c a k (by omega) z1 z2⟩
theorem yR.slt (h : yR t u U) (hk : k = 11 ∨ k = 12 ∨ 15 ≤ k ∧ k ≤ 21 ∨ 23 ≤ k ∧ k ≤ 27) : yR t (jp u 43 U k v) U := ⟨h.1.jp, fun c a j z z1 z2 => by rw [jf_neg (fun q => z ⟨q.1, q.2.1, by rw [q.2.2]; exact hk⟩)]; exact h.2 c a j z z1 z2⟩
theorem yR.ct3 (h : yR t u U) (hk : 0 ≤ k ∧ k < 4) : yR t (jp u 1000 (U + 3) k v) U := ⟨h.1.jp, fun c a j z z1 z2 => by rw [jf_neg (by omega)]; exact h.2 c a j z z1 z2⟩
def alOut (y : Option (jS × Int)) (t : jS) (U : Int) (g : Int → Int) (n : Int) (pr : fE ⊕ pvB) : Prop := match pr with
  | .inl e => ∃ w, y = u_X39_read_107 w U ∧ yR t w U ∧ jf w 43 U 20 = e.1 ∧ jf w 43 U 21 = e.2
  | .inr b => ∃ w, y = u_X39_read_107 w U ∧ yR t w U ∧ jf w 43 U 20 = 0 ∧ bkR (fun a k => jf w 1000 (U + a) k) b.1.2.1 b.2.1 b.2.2.1 b.2.2.2
theorem alOut.after {y : Option (jS × Int)} {pr : fE ⊕ pvB} (h : alOut y u U g n pr) (k : yR t u U) : alOut y t U g n pr := by
  cases pr with
  | inl e => obtain ⟨w, h1, h2, h3⟩ := h; exact ⟨w, h1, k.trans h2, h3⟩
  | inr z => obtain ⟨w, h1, h2, h3⟩ := h; exact ⟨w, h1, k.trans h2, h3⟩
theorem y_all : ∀ (m : Nat) (t : jS) (b : pvB) (ln h : Int), (n + 1 - b.1.1).toNat ≤ m → tPre t U g n b.1.1 b.1.2.1 b.1.2.2 h b.2.1 → bkT t U b.2.2.1 b.2.2.2 ln → (0 ≤ jf t 43 U 12 ∧ jf t 43 U 12 ≤ b.1.1) → (0 ≤ ln ∧ ln ≤ b.1.1) → alOut (jlpW (jc2 b_X39_read_52) [U, 1] t) t U g n (pvAll g n m ln b)
  | 0, t, b, ln, h, hm, T, _, _, _ => absurd hm (by have : b.1.1 ≤ n := T.2.2.1.2; omega)
  | m + 1, t, b, ln, h, hm, T, B, hL, hln => by
    have hb := T.1.2.2.1
    have hn := T.1.2.2.2
    have hp := T.2.2.1
    have h2000 := T.2.2.2.2.2.1.2.2.2.2
    obtain ⟨w1, z1, e1, T1, K1⟩ := T.next
    have hl := y_line (n + 1 - b.1.1).toNat w1 b h (Nat.le_refl _) T1 (B.rd K1) (by rw [K1.2 43 U 12 (by omega) (by omega)]; exact hL)
    have er : m_X39_readLine w1 U = jlpW (jc2 b_X39_readLine_2) [U, 1] w1 := by
      rw [em_X39_readLine]; unfold dm_X39_readLine
      rw [eu_X39_readLine_2]; unfold du_X39_readLine_2; rfl
    have hfl := pvLine_fl (ln := ln) hb (n + 1 - b.1.1).toNat b (Nat.le_refl _) hp.1 hp.2 h2000
    obtain ⟨C, hC⟩ : ∃ C, C = jc2 b_X39_read_52 := ⟨_, rfl⟩
    rw [← hC]
    have ev : ∀ (u : jS) k, C [U, k] u = b_X39_read_52 u U k := fun u k => by rw [hC]; rfl
    have stop : ∀ u, jlpW C [U, 0] u = u_X39_read_107 u U := fun u => by
      refine jlpW_r ?_
      rw [ev]; unfold b_X39_read_52
      rw [if_pos rfl]
    have bd : b_X39_read_52 t U 1 = (m_X39_readLine w1 U).bind fun q2 => if q2.2 = 0 then u_X39_read_82 q2.1 U else if (jf q2.1 43 U 18) < (jf q2.1 43 U 3) then u_X39_read_83 q2.1 U 1 else u_X39_read_82 q2.1 U := by
      unfold b_X39_read_52
      rw [if_neg (by decide), e1, Option.bind_some]
    rw [er] at bd
    have e83 : ∀ (u : jS) k, u_X39_read_83 u U k = some (.inl (jp (jp u 43 U 18 (W32 (jf u 43 U 18 + 1))) 43 U 19 (W32 (jf u 43 U 19 + 1)), [U, k])) := fun u k => by
      rw [eu_X39_read_83]; unfold du_X39_read_83
      simp only [jls]
      rw [show jf (jp u 43 U 18 (W32 (jf u 43 U 18 + 1))) 43 U 19 = jf u 43 U 19 by rw [jf_neg (by omega)]]
    have e82 : ∀ u, u_X39_read_82 u U = u_X39_read_83 u U 0 := fun u => by
      rw [eu_X39_read_82]; unfold du_X39_read_82; rfl
    unfold pvAll
    cases hg : pvLine g n ln (n + 1 - b.1.1).toNat b with
    | inl e =>
      rw [hg] at hl
      obtain ⟨w, x1, x2, x3, x4⟩ := hl
      rw [x1, Option.bind_some, if_pos rfl, e82, e83] at bd
      refine ⟨_, by rw [jlpW_l (by rw [ev]; exact bd), stop], ((K1.ya.yr.trans x2.yr).slt (by omega)).slt (by omega), by rw [jf_neg (by omega), jf_neg (by omega)]; exact x3, by rw [jf_neg (by omega), jf_neg (by omega)]; exact x4⟩
    | inr z =>
      rw [hg] at hl
      obtain ⟨w, h', x1, T2, B2, L2, K2, c0⟩ := hl
      obtain ⟨i1, i2, i3⟩ := hfl.2 z hg
      have hw := wd_in hb (p := z.1.1) (by omega) i2
      have eq0 := wd_0 hb (p := z.1.1) (by omega) i2 c0
      have w18 : jf w 43 U 18 = (wd g n z.1.1).2.2.1 := by rw [← eq0]; exact T2.2.1.2.2.2.1 (by show ¬ (wd g n z.1.1).1 = 6; omega)
      have w3 : jf w 43 U 3 = n := T2.1.1
      have w19 : jf w 43 U 19 = ln := B2.2.2.2.2.2.2
      rw [x1, Option.bind_some, if_neg (show ¬ (1 : Int) = 0 by decide)] at bd
      show alOut (jlpW C [U, 1] t) t U g n (if (wd g n z.1.1).2.2.1 < n then pvAll g n m (ln + 1) (((wd g n z.1.1).2.2.1 + 1, z.1.2), z.2) else .inr z)
      have bd : b_X39_read_52 t U 1 = if jf w 43 U 18 < jf w 43 U 3 then u_X39_read_83 w U 1 else u_X39_read_82 w U := bd
      rw [w18, w3] at bd
      have K3 : yR t w U := K1.ya.yr.trans K2.yr
      by_cases cn : (wd g n z.1.1).2.2.1 < n
      · rw [if_pos cn]
        rw [if_pos cn, e83, w18, w19, W32_in (by omega) (by omega), W32_in (by omega) (by omega)] at bd
        rw [jlpW_l (by rw [ev]; exact bd), hC]
        obtain ⟨T1', T2', T3', T4', T5', T6', T7', T9'⟩ := T2
        have F : ∀ c a k, ¬ (c = 43 ∧ a = U ∧ (k = 18 ∨ k = 19)) → jf (jp (jp w 43 U 18 ((wd g n z.1.1).2.2.1 + 1)) 43 U 19 (ln + 1)) c a k = jf w c a k := fun c a k z => by rw [jf_neg (by omega), jf_neg (by omega)]
        have TP : tPre (jp (jp w 43 U 18 ((wd g n z.1.1).2.2.1 + 1)) 43 U 19 (ln + 1)) U g n ((wd g n z.1.1).2.2.1 + 1) z.1.2.1 z.1.2.2 h' z.2.1 := ⟨⟨by rw [F _ _ _ (by omega)]; exact T1'.1, fun j j0 j1 => by rw [F _ _ _ (by omega)]; exact T1'.2.1 j j0 j1, T1'.2.2⟩, by rw [jf_neg (by omega), jf_pos ⟨rfl, rfl, rfl⟩], by omega, by rw [F _ _ _ (by omega)]; exact T4', ⟨by rw [F _ _ _ (by omega)]; exact T5'.1, T5'.2.1, fun i hi => ⟨(T5'.2.2 i hi).1, by rw [F _ _ _ (by omega)]; exact (T5'.2.2 i hi).2.1, fun j hj => by rw [F _ _ _ (by omega)]; exact (T5'.2.2 i hi).2.2 j hj⟩⟩, ⟨by rw [F _ _ _ (by omega)]; exact T6'.1, by rw [F _ _ _ (by omega)]; exact T6'.2.1, T6'.2.2⟩, ⟨by rw [F _ _ _ (by omega)]; exact T7'.1, fun i hi => by rw [F _ _ _ (by omega), F _ _ _ (by omega)]; exact T7'.2 i hi⟩, T9'⟩
        have B3 : bkT (jp (jp w 43 U 18 ((wd g n z.1.1).2.2.1 + 1)) 43 U 19 (ln + 1)) U z.2.2.1 z.2.2.2 (ln + 1) := by
          obtain ⟨b1, b2, b3, b4, b5, b6, b7⟩ := B2
          exact ⟨fun i hi => (b1 i hi).kpg (by rw [F _ _ _ (by omega)]; omega) fun a k _ => F _ _ _ (by omega), b2, by rw [F _ _ _ (by omega)]; exact b3, fun i hi => (b4 i hi).kpg fun k _ _ => F _ _ _ (by omega), b5, by rw [F _ _ _ (by omega)]; exact b6, jf_pos ⟨rfl, rfl, rfl⟩⟩
        exact (y_all m _ (((wd g n z.1.1).2.2.1 + 1, z.1.2), z.2) (ln + 1) h' (by show (n + 1 - ((wd g n z.1.1).2.2.1 + 1)).toNat ≤ m; omega) TP B3 (by rw [F _ _ _ (by omega)]; show 0 ≤ jf w 43 U 12 ∧ jf w 43 U 12 ≤ (wd g n z.1.1).2.2.1 + 1; omega) (by show 0 ≤ ln + 1 ∧ ln + 1 ≤ (wd g n z.1.1).2.2.1 + 1; omega)).after ((K3.slt (by omega)).slt (by omega))
      · rw [if_neg cn]
        rw [if_neg cn, e82, e83] at bd
        have T4 := T2.2.2.2.1
        refine ⟨_, by rw [jlpW_l (by rw [ev]; exact bd), stop], (K3.slt (by omega)).slt (by omega), by rw [jf_neg (by omega), jf_neg (by omega)]; exact T4, ?_⟩
        exact (T2.bkR B2 (by omega)).cg fun a k ha k0 k1 => by rw [jf_neg (by omega), jf_neg (by omega)]
/-- what reading may write -/
def yRk (t w : jS) (U : Int) : Prop := jSm t w ∧ ∀ c a k, ¬ (c = 43 ∧ a = U ∧ (k = 0 ∨ k = 3 ∨ 11 ≤ k ∧ k ≤ 21 ∨ 23 ≤ k ∧ k ≤ 27)) → ¬ (c = 1000 ∧ (U + 3 ≤ a ∧ a ≤ U + 10 ∨ a = U + 15 ∨ a = U + 16)) → jf w c a k = jf t c a k
def rdOut (t : jS) (U : Int) (pr : fE ⊕ pvB) : Prop := match pr with
  | .inl e => ∃ w, m_X39_read t U = some (w, 0) ∧ yRk t w U ∧ (jf w 43 U 13 = e.1 ∧ jf w 43 U 14 = e.2 ∧ jf w 43 U 0 = 1 ∧ jf w 43 U 3 = 0) ∧ ∀ a k, (3 ≤ a ∧ a ≤ 9 ∨ a = 16) → 0 ≤ k → k < kN a → jf w 1000 (U + a) (kN a + k) = jf t 1000 (U + a) (kN a + k)
  | .inr b => ∃ w, m_X39_read t U = some (w, (b.2.2.2.length : Int)) ∧ yRk t w U ∧ (jf w 43 U 13 = 0 ∧ jf w 43 U 14 = -1 ∧ jf w 43 U 0 = 0 ∧ jf w 43 U 3 = 0) ∧ bkR (fun a k => jf w 1000 (U + a) (kN a + k)) b.1.2.1 b.2.1 b.2.2.1 b.2.2.2
theorem kN_lo (h : 3 ≤ a ∧ a ≤ 9 ∨ a = 16) : 4 ≤ kN a ∧ (a = 3 → kN a = 4) ∧ (a = 4 → kN a = 2400) ∧ (a = 5 → kN a = 5600) ∧ (a = 6 → kN a = 4000) ∧ (a = 7 → kN a = 2400) ∧ (a = 8 → kN a = 150) ∧ (a = 9 → kN a = 3000) ∧ (a = 16 → kN a = 800) := by
  have : a = 3 ∨ a = 4 ∨ a = 5 ∨ a = 6 ∨ a = 7 ∨ a = 8 ∨ a = 9 ∨ a = 16 := by omega
  rcases this with z | z | z | z | z | z | z | z <;> subst z <;> exact ⟨by decide, fun h => by first | rfl | exact absurd h (by decide), fun h => by first | rfl | exact absurd h (by decide), fun h => by first | rfl | exact absurd h (by decide), fun h => by first | rfl | exact absurd h (by decide), fun h => by first | rfl | exact absurd h (by decide), fun h => by first | rfl | exact absurd h (by decide), fun h => by first | rfl | exact absurd h (by decide), fun h => by first | rfl | exact absurd h (by decide)⟩
/-- a text is read -/
theorem y_readT (T : tdI t U g n) : rdOut t U (pvAll g n (n + 1).toNat 0 ((0, [], 0), [], [], [])) := by
  obtain ⟨C, hC⟩ : ∃ C, C = jc2 b_X39_read_2 := ⟨_, rfl⟩
  have ev : ∀ (u : jS) k, C [U, k] u = b_X39_read_2 u U k := fun u k => by rw [hC]; rfl
  have st4 : ∀ (u : jS) k, 0 ≤ k → k < 4 → jlpW C [U, k] u = jlpW C [U, k + 1] (jp u 1000 (U + 3) k 0) := fun u k k0 k1 => by
    refine jlpW_l ?_
    rw [ev]; unfold b_X39_read_2
    rw [if_pos k1, jst_in (by omega) (by omega), Option.bind_some, W32_in (by omega) (by omega)]
  have er : m_X39_read t U = u_X39_read_52 (jp (jp (jp (jp (jp (jp (jp (jp (jp (jp t 1000 (U + 3) 0 0) 1000 (U + 3) 1 0) 1000 (U + 3) 2 0) 1000 (U + 3) 3 0) 43 U 12 0) 43 U 24 0) 43 U 20 0) 43 U 21 (-1)) 43 U 19 0) 43 U 18 0) U 1 := by
    rw [em_X39_read]; unfold dm_X39_read
    rw [eu_X39_read_2]; unfold du_X39_read_2
    have s4 : jlpW C [U, 0] t = jlpW C [U, 4] (jp (jp (jp (jp t 1000 (U + 3) 0 0) 1000 (U + 3) 1 0) 1000 (U + 3) 2 0) 1000 (U + 3) 3 0) := (st4 t 0 (by decide) (by decide)).trans ((st4 _ 1 (by decide) (by decide)).trans ((st4 _ 2 (by decide) (by decide)).trans (st4 _ 3 (by decide) (by decide))))
    rw [← hC, s4, jlpW_r (r := u_X39_read_20 (jp (jp (jp (jp t 1000 (U + 3) 0 0) 1000 (U + 3) 1 0) 1000 (U + 3) 2 0) 1000 (U + 3) 3 0) U) (by
      rw [ev]; unfold b_X39_read_2
      rw [if_neg (by decide)]), eu_X39_read_20]; unfold du_X39_read_20
    simp only [jls]
  rw [eu_X39_read_52] at er
  unfold du_X39_read_52 at er
  have K0 : yR t (jp (jp (jp (jp (jp (jp (jp (jp (jp (jp t 1000 (U + 3) 0 0) 1000 (U + 3) 1 0) 1000 (U + 3) 2 0) 1000 (U + 3) 3 0) 43 U 12 0) 43 U 24 0) 43 U 20 0) 43 U 21 (-1)) 43 U 19 0) 43 U 18 0) U := (((((((((yR.rfl.ct3 (by omega)).ct3 (by omega)).ct3 (by omega)).ct3 (by omega)).slt (by omega)).slt (by omega)).slt (by omega)).slt (by omega)).slt (by omega)).slt (by omega)
  have TP : tPre (jp (jp (jp (jp (jp (jp (jp (jp (jp (jp t 1000 (U + 3) 0 0) 1000 (U + 3) 1 0) 1000 (U + 3) 2 0) 1000 (U + 3) 3 0) 43 U 12 0) 43 U 24 0) 43 U 20 0) 43 U 21 (-1)) 43 U 19 0) 43 U 18 0) U g n 0 [] 0 (jf t 43 U 25) [] := ⟨⟨by rw [K0.2 _ _ _ (by omega) (by omega) (by omega)]; exact T.1, fun j j0 j1 => by rw [K0.2 _ _ _ (by omega) (by omega) (by omega)]; exact T.2.1 j j0 j1, T.2.2⟩, jf_pos ⟨rfl, rfl, rfl⟩, ⟨by omega, T.2.2.2.1⟩, by (repeat (first | rw [jf_neg (by omega)] | rw [jf_pos (by omega)] | rw [ou_neg (by omega)] | rw [ou_pos (by omega)])), ⟨by show _ = (0 : Int); (repeat (first | rw [jf_neg (by omega)] | rw [jf_pos (by omega)] | rw [ou_neg (by omega)] | rw [ou_pos (by omega)])), by show 0 ≤ 150; decide, fun i hi => absurd hi (by simp)⟩, ⟨by (repeat (first | rw [jf_neg (by omega)] | rw [jf_pos (by omega)] | rw [ou_neg (by omega)] | rw [ou_pos (by omega)])), by (repeat (first | rw [jf_neg (by omega)] | rw [jf_pos (by omega)] | rw [ou_neg (by omega)] | rw [ou_pos (by omega)])), by omega, by omega, by omega⟩, ⟨by show _ = (0 : Int); (repeat (first | rw [jf_neg (by omega)] | rw [jf_pos (by omega)] | rw [ou_neg (by omega)] | rw [ou_pos (by omega)])), fun i hi => absurd hi (by simp)⟩, by show ((0 : Nat) : Int) ≤ 0; decide⟩
  have B : bkT (jp (jp (jp (jp (jp (jp (jp (jp (jp (jp t 1000 (U + 3) 0 0) 1000 (U + 3) 1 0) 1000 (U + 3) 2 0) 1000 (U + 3) 3 0) 43 U 12 0) 43 U 24 0) 43 U 20 0) 43 U 21 (-1)) 43 U 19 0) 43 U 18 0) U [] [] 0 := ⟨fun i hi => absurd hi (by simp), by show 0 ≤ 800; decide, by show _ = (0 : Int); (repeat (first | rw [jf_neg (by omega)] | rw [jf_pos (by omega)] | rw [ou_neg (by omega)] | rw [ou_pos (by omega)])), fun i hi => absurd hi (by simp), by show 0 ≤ 400; decide, by show _ = (0 : Int); (repeat (first | rw [jf_neg (by omega)] | rw [jf_pos (by omega)] | rw [ou_neg (by omega)] | rw [ou_pos (by omega)])), by (repeat (first | rw [jf_neg (by omega)] | rw [jf_pos (by omega)] | rw [ou_neg (by omega)] | rw [ou_pos (by omega)]))⟩
  have h12 : jf (jp (jp (jp (jp (jp (jp (jp (jp (jp (jp t 1000 (U + 3) 0 0) 1000 (U + 3) 1 0) 1000 (U + 3) 2 0) 1000 (U + 3) 3 0) 43 U 12 0) 43 U 24 0) 43 U 20 0) 43 U 21 (-1)) 43 U 19 0) 43 U 18 0) 43 U 12 = 0 := by (repeat (first | rw [jf_neg (by omega)] | rw [jf_pos (by omega)] | rw [ou_neg (by omega)] | rw [ou_pos (by omega)]))
  generalize jp (jp (jp (jp (jp (jp (jp (jp (jp (jp t 1000 (U + 3) 0 0) 1000 (U + 3) 1 0) 1000 (U + 3) 2 0) 1000 (U + 3) 3 0) 43 U 12 0) 43 U 24 0) 43 U 20 0) 43 U 21 (-1)) 43 U 19 0) 43 U 18 0 = t0 at *
  have ha := (y_all (n + 1).toNat t0 ((0, [], 0), [], [], []) 0 (jf t 43 U 25) (by show (n + 1 - 0).toNat ≤ (n + 1).toNat; omega) TP B (by rw [h12]; exact ⟨Int.le_refl 0, Int.le_refl 0⟩) ⟨Int.le_refl 0, Int.le_refl 0⟩).after K0
  have fo := pvAll_fl T.2.2.1 (n + 1).toNat 0 ((0, [], 0), [], [], []) (by show (n + 1 - 0).toNat ≤ (n + 1).toNat; omega) (Int.le_refl 0) T.2.2.2.1 (by show (0 : Int) ≤ 2000; decide)
  rw [← er] at ha
  cases hP : pvAll g n (n + 1).toNat 0 ((0, [], 0), [], [], []) with
  | inl e =>
    rw [hP] at ha fo
    obtain ⟨w, x1, K, f1, f2⟩ := ha
    have e0 : ¬ e.1 = 0 := by have : 1 ≤ e.1 := fo; omega
    refine ⟨jp (jp (jp (jp w 43 U 3 0) 43 U 13 e.1) 43 U 14 e.2) 43 U 0 1, ?_, ⟨((((K.1.jp).jp).jp).jp), fun c a k z z1 => ?_⟩, ⟨?_, ?_, ?_, ?_⟩, fun a k ha k0 k1 => ?_⟩
    · rw [x1, eu_X39_read_107]; unfold du_X39_read_107
      simp only [jls]
      rw [show jf (jp w 43 U 3 0) 43 U 20 = e.1 by rw [jf_neg (by omega)]; exact f1, show jf (jp (jp w 43 U 3 0) 43 U 13 e.1) 43 U 20 = e.1 by rw [jf_neg (by omega), jf_neg (by omega)]; exact f1, if_neg e0, show jf (jp (jp w 43 U 3 0) 43 U 13 e.1) 43 U 21 = e.2 by rw [jf_neg (by omega), jf_neg (by omega)]; exact f2, eu_X39_read_136]; unfold du_X39_read_136
      simp only [jls]
      rw [show jf (jp (jp (jp w 43 U 3 0) 43 U 13 e.1) 43 U 14 e.2) 43 U 20 = e.1 by rw [jf_neg (by omega), jf_neg (by omega), jf_neg (by omega)]; exact f1, if_neg e0, eu_X39_read_152]; unfold du_X39_read_152
      simp only [jls]
      rw [show jf (jp (jp (jp (jp w 43 U 3 0) 43 U 13 e.1) 43 U 14 e.2) 43 U 0 1) 43 U 20 = e.1 by rw [jf_neg (by omega), jf_neg (by omega), jf_neg (by omega), jf_neg (by omega)]; exact f1, if_neg e0]
    · rw [jf_neg (by omega), jf_neg (by omega), jf_neg (by omega), jf_neg (by omega)]; exact K.2 c a k (by omega) (by omega) (by omega)
    · (repeat (first | rw [jf_neg (by omega)] | rw [jf_pos (by omega)] | rw [ou_neg (by omega)] | rw [ou_pos (by omega)]))
    · (repeat (first | rw [jf_neg (by omega)] | rw [jf_pos (by omega)] | rw [ou_neg (by omega)] | rw [ou_pos (by omega)]))
    · (repeat (first | rw [jf_neg (by omega)] | rw [jf_pos (by omega)] | rw [ou_neg (by omega)] | rw [ou_pos (by omega)]))
    · (repeat (first | rw [jf_neg (by omega)] | rw [jf_pos (by omega)] | rw [ou_neg (by omega)] | rw [ou_pos (by omega)]))
    · have := kN_lo ha
      rw [jf_neg (by omega), jf_neg (by omega), jf_neg (by omega), jf_neg (by omega)]; exact K.2 _ _ _ (by omega) (by omega) (by omega)
  | inr b =>
    rw [hP] at ha
    obtain ⟨w, x1, K, f1, Bk⟩ := ha
    obtain ⟨w2, x2, S2, F2, G2⟩ := y_keep (t := jp (jp (jp (jp w 43 U 3 0) 43 U 13 0) 43 U 14 (-1)) 43 U 0 0) (U := U)
    have n43 : ∀ a k, jf w2 43 a k = jf (jp (jp (jp (jp w 43 U 3 0) 43 U 13 0) 43 U 14 (-1)) 43 U 0 0) 43 a k := fun a k => F2 _ _ _ (fun q => absurd q.1 (by decide))
    have low : ∀ a k, (3 ≤ a ∧ a ≤ 9 ∨ a = 16) → k < kN a → jf w2 1000 (U + a) k = jf w 1000 (U + a) k := fun a k ha hk => by
      rw [F2 _ _ _ (fun q => by
        obtain ⟨-, a2, h1, h2, h3, h4⟩ := q
        have : a = a2 := by omega
        subst this; omega), jf_neg (by omega), jf_neg (by omega), jf_neg (by omega), jf_neg (by omega)]
    refine ⟨w2, ?_, ⟨jSm.trans ((((K.1.jp).jp).jp).jp) S2, fun c a k z z1 => ?_⟩, ⟨?_, ?_, ?_, ?_⟩, Bk.cg fun a k ha k0 k1 => ?_⟩
    · rw [x1, eu_X39_read_107]; unfold du_X39_read_107
      simp only [jls]
      rw [show jf (jp w 43 U 3 0) 43 U 20 = 0 by rw [jf_neg (by omega)]; exact f1, show jf (jp (jp w 43 U 3 0) 43 U 13 0) 43 U 20 = 0 by rw [jf_neg (by omega), jf_neg (by omega)]; exact f1, if_pos rfl, eu_X39_read_136]; unfold du_X39_read_136
      simp only [jls]
      rw [show jf (jp (jp (jp w 43 U 3 0) 43 U 13 0) 43 U 14 (-1)) 43 U 20 = 0 by rw [jf_neg (by omega), jf_neg (by omega), jf_neg (by omega)]; exact f1, if_pos rfl, eu_X39_read_152]; unfold du_X39_read_152
      simp only [jls]
      rw [show jf (jp (jp (jp (jp w 43 U 3 0) 43 U 13 0) 43 U 14 (-1)) 43 U 0 0) 43 U 20 = 0 by rw [jf_neg (by omega), jf_neg (by omega), jf_neg (by omega), jf_neg (by omega)]; exact f1, if_pos rfl, x2, Option.bind_some, jlt_in (by omega) (by omega), Option.bind_some]
      have l0 := low 3 0 (by omega) (by decide)
      have b0 := Bk.1.1
      rw [l0]
      show some (w2, jf w 1000 (U + 3) 0) = _
      rw [show jf w 1000 (U + 3) 0 = (b.2.2.2.length : Int) from b0]
    · rw [F2 _ _ _ (fun q => by
        obtain ⟨h0, a2, h1, h2, h3, h4⟩ := q
        exact z1 ⟨h0, by omega⟩), jf_neg (by omega), jf_neg (by omega), jf_neg (by omega), jf_neg (by omega)]; exact K.2 c a k (by omega) (by omega) (by omega)
    · rw [n43]; (repeat (first | rw [jf_neg (by omega)] | rw [jf_pos (by omega)] | rw [ou_neg (by omega)] | rw [ou_pos (by omega)]))
    · rw [n43]; (repeat (first | rw [jf_neg (by omega)] | rw [jf_pos (by omega)] | rw [ou_neg (by omega)] | rw [ou_pos (by omega)]))
    · rw [n43]; (repeat (first | rw [jf_neg (by omega)] | rw [jf_pos (by omega)] | rw [ou_neg (by omega)] | rw [ou_pos (by omega)]))
    · rw [n43]; (repeat (first | rw [jf_neg (by omega)] | rw [jf_pos (by omega)] | rw [ou_neg (by omega)] | rw [ou_pos (by omega)]))
    · rw [G2 a k ha k0 k1, jf_neg (by omega), jf_neg (by omega), jf_neg (by omega), jf_neg (by omega)]
end jTread2
