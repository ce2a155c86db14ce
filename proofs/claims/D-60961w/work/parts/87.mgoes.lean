/-! a step of both -/
section jMgoes
variable {s t : jS} {M U : Int}
/-- the word's work begins -/
theorem begin_Wk {s' t' : jS} (h : Mr s M t U) (hs : Rs s s' M (M + 18 + jf s 33 M 20)) (h11 : jf s' 33 M 11 = 0) (h12 : jf s' 33 M 12 = 0) (h22 : jf s' 33 M 22 = M + 18 + jf s 33 M 20)
    (f0 : jf s' 36 (M + 18 + jf s 33 M 20) 0 = jf s 33 M 10) (f1 : jf s' 36 (M + 18 + jf s 33 M 20) 1 = jf s 33 M 11) (f2 : jf s' 36 (M + 18 + jf s 33 M 20) 2 = jf s 33 M 12) (f3 : jf s' 36 (M + 18 + jf s 33 M 20) 3 = jf s 33 M 13) (f4 : jf s' 36 (M + 18 + jf s 33 M 20) 4 = jf s 33 M 14) (f5 : jf s' 36 (M + 18 + jf s 33 M 20) 5 = jf s 33 M 15) (f6 : jf s' 36 (M + 18 + jf s 33 M 20) 6 = jf s 33 M 18) (f7 : jf s' 36 (M + 18 + jf s 33 M 20) 7 = jf s 33 M 17) (f8 : jf s' 36 (M + 18 + jf s 33 M 20) 8 = -1) (f9 : jf s' 36 (M + 18 + jf s 33 M 20) 11 = 0)
    (hsm : jSm t t') (ht : ∀ c a k, ¬ (c = 1000 ∧ a = U + 2) → ¬ (c = 47 ∧ a = U ∧ (25 ≤ k ∨ k = 17 ∨ k = 18 ∨ k = 23 ∨ k = 24)) → ¬ (c = 1000 ∧ a = U + 12 ∧ 13 * jf t 47 U 24 ≤ k ∧ k ≤ 13 * jf t 47 U 24 + 12) → jf t' c a k = jf t c a k)
    (g17 : jf t' 47 U 17 = 0) (g18 : jf t' 47 U 18 = 0) (g24 : jf t' 47 U 24 = (jf t 47 U 24 + 1) % 100) (g23 : jf t' 47 U 23 = (if jf t 47 U 23 < 100 then jf t 47 U 23 + 1 else 100))
    (k0 : jf t' 1000 (U + 12) (13 * jf t 47 U 24) = jf t 47 U 11) (k1 : jf t' 1000 (U + 12) (13 * jf t 47 U 24 + 1) = jf t 47 U 17) (k2 : jf t' 1000 (U + 12) (13 * jf t 47 U 24 + 2) = jf t 47 U 18) (k3 : jf t' 1000 (U + 12) (13 * jf t 47 U 24 + 3) = jf t 47 U 19) (k4 : jf t' 1000 (U + 12) (13 * jf t 47 U 24 + 4) = jf t 47 U 20) (k5 : jf t' 1000 (U + 12) (13 * jf t 47 U 24 + 5) = jf t 47 U 21) (k6 : jf t' 1000 (U + 12) (13 * jf t 47 U 24 + 6) = jf t 47 U 16) (k7 : jf t' 1000 (U + 12) (13 * jf t 47 U 24 + 7) = jf t 47 U 14) (k8 : jf t' 1000 (U + 12) (13 * jf t 47 U 24 + 8) = 0) (k10 : jf t' 1000 (U + 12) (13 * jf t 47 U 24 + 10) = -1) :
    Wk s' M t' U (if jf s 33 M 20 = 100 then 0 else jf s 33 M 20 + 1) (jmi 100 (jf s 33 M 21 + 1)) (jf t 47 U 21) := by
  obtain ⟨hK, hP, hMem, hMark, hSeg, hReg, hIn, hOut, hHalt, hSc, hRing⟩ := h
  have hM0 := hK.1
  have hR := hRing
  unfold MrRing at hR
  obtain ⟨a1, a2, a3, a4, a5, a6, a7, a8⟩ := hR
  have c1 : ∀ c a, ¬ c = 36 → ¬ c = 34 → ¬ c = 33 → jf s' c a = jf s c a := fun c a x y z => jf_fn fun k => hs.2 c a k (by omega) (by omega) (by omega)
  have c35 : jf s' 35 = jf s 35 := jf_fn2 fun a k => hs.2 35 a k (by omega) (by omega) (by omega)
  have cC : ∀ k, ¬ k = 22 → ¬ k = 11 → ¬ k = 12 → ¬ k = 15 → jf s' 33 M k = jf s 33 M k := fun k x y z w => hs.2 33 M k (by omega) (by omega) (by omega)
  have d1 : ∀ c a, ¬ c = 47 → ¬ (c = 1000 ∧ (a = U + 2 ∨ a = U + 12)) → jf t' c a = jf t c a := fun c a x y => jf_fn fun k => ht c a k (by omega) (by omega) (by omega)
  have dD : ∀ k, k < 23 → ¬ k = 17 → ¬ k = 18 → jf t' 47 U k = jf t 47 U k := fun k x y z => ht 47 U k (by omega) (by omega) (by omega)
  have hn : (if jf s 33 M 20 = 100 then (0 : Int) else jf s 33 M 20 + 1) = (jf s 33 M 20 + 1) % 101 := by split <;> omega
  have hk : jmi 100 (jf s 33 M 21 + 1) = (if jf t 47 U 23 < 100 then jf t 47 U 23 + 1 else 100) := by
    unfold jmi; rw [a3]; split <;> split <;> omega
  rw [hn, hk]
  have hnr : 0 ≤ (jf s 33 M 20 + 1) % 101 ∧ (jf s 33 M 20 + 1) % 101 ≤ 100 := by omega
  have hn1 : ((jf s 33 M 20 + 1) % 101 - 1) % 101 = jf s 33 M 20 := by omega
  refine ⟨⟨hK.sm hs.1, hP.at (d1 _ _ (by omega) (by omega)), ?_, ?_, ?_, ?_, ?_, ?_, ?_, ?_, ?_⟩, ?_, ?_⟩
  · rw [c1 _ _ (by omega) (by omega) (by omega), d1 _ _ (by omega) (by omega)]; exact hMem
  · rw [c1 _ _ (by omega) (by omega) (by omega), d1 _ _ (by omega) (by omega)]; exact hMark
  · rw [c35, d1 _ (U + 5) (by omega) (by omega), d1 _ (U + 6) (by omega) (by omega), d1 _ (U + 7) (by omega) (by omega)]; exact hSeg
  · rw [c1 _ _ (by omega) (by omega) (by omega), d1 _ _ (by omega) (by omega)]; exact hReg
  · rw [c1 1001 _ (by omega) (by omega) (by omega), d1 1000 _ (by omega) (by omega)]
    unfold MrIn at *
    rw [aC_x _ _ _ _ _ (by omega) (by omega) (by omega), cC 16 (by omega) (by omega) (by omega) (by omega), dD 13 (by omega) (by omega) (by omega)]; exact hIn
  · rw [c1 _ _ (by omega) (by omega) (by omega), d1 _ _ (by omega) (by omega)]; exact hOut
  · rw [c1 1000 _ (by omega) (by omega) (by omega), d1 1000 _ (by omega) (by omega)]
    unfold MrHalt at *
    rw [aC_x _ _ _ _ _ (by omega) (by omega) (by omega), cC 19 (by omega) (by omega) (by omega) (by omega), dD 9 (by omega) (by omega) (by omega)]; exact hHalt
  · unfold MrSc at *
    have e15 : aC (jf s' 33 M) ((jf s 33 M 20 + 1) % 101) (if jf t 47 U 23 < 100 then jf t 47 U 23 + 1 else 100) (jf t 47 U 21) 15 = jf t 47 U 21 := rfl
    rw [e15]
    simp only [aC_x _ _ _ _ 9 (by decide) (by decide) (by decide), aC_x _ _ _ _ 10 (by decide) (by decide) (by decide), aC_x _ _ _ _ 11 (by decide) (by decide) (by decide), aC_x _ _ _ _ 12 (by decide) (by decide) (by decide), aC_x _ _ _ _ 13 (by decide) (by decide) (by decide), aC_x _ _ _ _ 14 (by decide) (by decide) (by decide), aC_x _ _ _ _ 17 (by decide) (by decide) (by decide), aC_x _ _ _ _ 18 (by decide) (by decide) (by decide)]
    rw [cC 9 (by omega) (by omega) (by omega) (by omega), cC 10 (by omega) (by omega) (by omega) (by omega), cC 13 (by omega) (by omega) (by omega) (by omega), cC 14 (by omega) (by omega) (by omega) (by omega), cC 17 (by omega) (by omega) (by omega) (by omega), cC 18 (by omega) (by omega) (by omega) (by omega), dD 7 (by omega) (by omega) (by omega), dD 11 (by omega) (by omega) (by omega), dD 19 (by omega) (by omega) (by omega), dD 20 (by omega) (by omega) (by omega), dD 21 (by omega) (by omega) (by omega), dD 14 (by omega) (by omega) (by omega), dD 13 (by omega) (by omega) (by omega), dD 16 (by omega) (by omega) (by omega), h11, h12, g17, g18]
    obtain ⟨x1, x2, x3, x4, x5, x6, x7, x8, x9⟩ := hSc
    exact ⟨x1, x2, x3, rfl, rfl, x6, x7, ⟨rfl, x8.2⟩, x9⟩
  · unfold MrRing
    rw [dD 13 (by omega) (by omega) (by omega), g23, g24]
    have e20 : aC (jf s' 33 M) ((jf s 33 M 20 + 1) % 101) (if jf t 47 U 23 < 100 then jf t 47 U 23 + 1 else 100) (jf t 47 U 21) 20 = (jf s 33 M 20 + 1) % 101 := rfl
    have e21 : aC (jf s' 33 M) ((jf s 33 M 20 + 1) % 101) (if jf t 47 U 23 < 100 then jf t 47 U 23 + 1 else 100) (jf t 47 U 21) 21 = (if jf t 47 U 23 < 100 then jf t 47 U 23 + 1 else 100) := rfl
    rw [e20, e21]
    have hkr : 1 ≤ (if jf t 47 U 23 < 100 then jf t 47 U 23 + 1 else 100) ∧ (if jf t 47 U 23 < 100 then jf t 47 U 23 + 1 else 100) ≤ 100 ∧ (if jf t 47 U 23 < 100 then jf t 47 U 23 + 1 else 100) ≤ jf t 47 U 23 + 1 := by split <;> omega
    refine ⟨hnr.1, hnr.2, rfl, by omega, by omega, by omega, by omega, fun j j0 j1 => ?_⟩
    generalize (if jf t 47 U 23 < 100 then jf t 47 U 23 + 1 else 100) = kk at *
    by_cases e : j = 1
    · subst e
      have q1 : ((jf t 47 U 24 + 1) % 100 - 1) % 100 = jf t 47 U 24 := by omega
      rw [hn1, q1]
      unfold MrRec
      rw [f0, f1, f2, f3, f4, f5, f6, f7, f8, f9, k0, k1, k2, k3, k4, k5, k6, k7, k8, k10]
      unfold MrSc at hSc
      obtain ⟨x1, x2, x3, x4, x5, x6, x7, x8, x9, x10, x11, x12, x13, x14⟩ := hSc
      exact ⟨x2, x3, x4, x5, x6, x7, x8, x12, x13, x14, x9, x10, x11, .inl ⟨rfl, rfl⟩, .inl ⟨rfl, rfl⟩⟩
    · have q1 : ((jf s 33 M 20 + 1) % 101 - j) % 101 = (jf s 33 M 20 - (j - 1)) % 101 := by omega
      have q2 : ((jf t 47 U 24 + 1) % 100 - j) % 100 = (jf t 47 U 24 - (j - 1)) % 100 := by omega
      rw [q1, q2]
      have e : jf s' 36 (M + 18 + (jf s 33 M 20 - (j - 1)) % 101) = jf s 36 (M + 18 + (jf s 33 M 20 - (j - 1)) % 101) := jf_fn fun k => hs.2 36 _ k (by omega) (by omega) (by omega)
      rw [e]
      exact (a8 (j - 1) (by omega) (by omega)).cong fun x x0 x1 => ht 1000 (U + 12) x (by omega) (by omega) (by omega)
  · rw [h22, hn1]
  · rw [g23]; split <;> omega
/-- what a step gives -/
def GQ (s : jS) (M : Int) (t : jS) (U : Int) (r q : jS × Int) : Prop := Mr r.1 M q.1 U ∧ jFm s r.1 M 119 ∧ jFm t q.1 U 13 ∧ q.2 = jf q.1 47 U 17 ∧ ((r.2 = 1 ∧ jf q.1 47 U 20 = W32 (jf t 47 U 20 + 1)) ∨ (r.2 = 0 ∧ 1 ≤ jf q.1 47 U 17 ∧ jf q.1 47 U 17 ≤ 4))
theorem Rs.fm {N : Int} {s' : jS} (h : Rs s s' M N) (h0 : M ≤ N) (h1 : N < M + 119) : jFm s s' M 119 := ⟨h.1, fun c a k q => h.2 c a k (by omega) (by omega) (by omega)⟩
theorem Rt.fm {t' : jS} (h : Rt t t' U) : jFm t t' U 13 := ⟨h.1, fun c a k q => h.2 c a k (by omega) (by omega)⟩
theorem MF_goes {r q : jS × Int} {sx tx : jS} (h : Mr s M t U) (hs : Rs s sx M (M + 18 + jf s 33 M 20)) (h15 : jf sx 33 M 15 = jf s 33 M 15) (ht : Rt t tx U) (hF : MF sx M tx U r q) : GQ s M t U (r.1, 0) (q.1, jf q.1 47 U 17) := by
  obtain ⟨z1, z2, s', t', x, y, hc, htw, hx, e1, e2⟩ := hF
  have a1 := h.2.2.2.2.2.2.2.2.2.2
  have hM0 := h.1.1
  unfold MrRing at a1
  have R1 : Rs s r.1 M (M + 18 + jf s 33 M 20) := by
    rw [e1]; exact ((hs.trans (Rs.of hc)).jp (by omega)).jp (by omega)
  have R2 : Rt t q.1 U := by
    rw [e2]; exact ((ht.trans (Rt.of htw)).jp (by omega)).jp (by omega)
  have q11 : jf r.1 33 M 11 = x := by rw [e1]; simp only [eq_self, or_true, true_or, or_false, false_or, jfc_jp, jupp_p, jup_a, Int.add_right_inj, Int.add_left_inj, Int.reduceEq, if_true, if_false, true_and, and_true, false_and, and_false, reduceIte]
  have q12 : jf r.1 33 M 12 = y := by rw [e1]; simp only [eq_self, or_true, true_or, or_false, false_or, jfc_jp, jupp_p, jup_a, Int.add_right_inj, Int.add_left_inj, Int.reduceEq, if_true, if_false, true_and, and_true, false_and, and_false, reduceIte]
  have q17 : jf q.1 47 U 17 = x := by rw [e2]; simp only [eq_self, or_true, true_or, or_false, false_or, jfc_jp, jupp_p, jup_a, Int.add_right_inj, Int.add_left_inj, Int.reduceEq, if_true, if_false, true_and, and_true, false_and, and_false, reduceIte]
  have q18 : jf q.1 47 U 18 = y := by rw [e2]; simp only [eq_self, or_true, true_or, or_false, false_or, jfc_jp, jupp_p, jup_a, Int.add_right_inj, Int.add_left_inj, Int.reduceEq, if_true, if_false, true_and, and_true, false_and, and_false, reduceIte]
  have q15 : jf r.1 33 M 15 = jf s 33 M 15 := by
    rw [e1, jf_jp, if_neg (by omega), jf_jp, if_neg (by omega), hc.2 _ _ _ (by omega), h15]
  exact ⟨fail_Mr h R1 R2 (by rw [q11, q17]) (by rw [q12, q18]) q15, R1.fm (by omega) (by omega), R2.fm, rfl, .inr ⟨rfl, by rw [q17]; exact hx.1, by rw [q17]; exact hx.2⟩⟩
end jMgoes
section jMgoes2
variable {s t : jS} {M U : Int}
theorem MW_of {p : jP5} {s' t' : jS} (h : MW s M t U p) (h1 : jf s' 34 = jf s 34) (h2 : jf t' 47 U 25 = jf t 47 U 25) (h3 : jf t' 47 U 26 = jf t 47 U 26) (h4 : jf t' 1000 (U + 2) = jf t 1000 (U + 2)) : MW s' M t' U p := by
  unfold MW at *
  rw [h1, h2, h3, h4]; exact h
/-- whether the step is a unit -/
theorem p_unit (h : Mr s M t U) : ∃ w, (w = 0 ∨ w = 1) ∧ m_X43_isUnit t U = some w ∧ ∀ r : jS, jf r 1002 (M + 2) = jf s 1002 (M + 2) → jf r 33 M 9 = jf s 33 M 9 → jf r 33 M 10 = jf s 33 M 10 →
    (if jf r 33 M 9 = 0 then u_X29_goes_52 r M else (m_X29_isMarked r M (jf r 33 M 10)).bind fun v6 => if v6 = 0 then u_X29_goes_62 r M else u_X29_goes_52 r M) = if w = 0 then u_X29_goes_62 r M else u_X29_goes_52 r M := by
  obtain ⟨hK, hP, hMem, hMark, hSeg, hReg, hIn, hOut, hHalt, hSc, hRing⟩ := h
  have h9 := hSc.1
  have h10 := hSc.2.1
  have hpc := hSc.2.2.1
  rw [em_X43_isUnit]; unfold dm_X43_isUnit
  by_cases c : jf t 47 U 7 = 0
  · refine ⟨1, .inr rfl, by rw [if_pos c, Wz_1], fun r r1 r2 r3 => ?_⟩
    rw [r2, h9, if_pos c, if_neg (by omega)]
  · rw [if_neg c, e_X43_bare, Option.bind_some, L_and_4294967295]
    obtain ⟨x, y, e1, e2, e3, hx⟩ := jE2_get (p_isMarked (s := s) (t := t) (M := M) (U := U) (a := jf t 47 U 11) (b := jf t 47 U 11 % 4294967296) hMark hpc.2.2 (by omega))
    subst e3
    refine ⟨x, hx, ?_, fun r r1 r2 r3 => ?_⟩
    · rw [e2, Option.bind_some, Wz_0, Wz_1]
      rcases hx with rfl | rfl
      · rw [if_pos rfl]
      · rw [if_neg (by omega)]
    · rw [r2, h9, if_neg c, r3, h10]
      obtain ⟨x', y', f1, f2, f3, _⟩ := jE2_get (p_isMarked (s := r) (t := t) (M := M) (U := U) (a := jf t 47 U 11) (b := jf t 47 U 11 % 4294967296) (by rw [r1]; exact hMark) hpc.2.2 (by omega))
      subst f3
      rw [e2] at f2
      cases f2
      rw [f1, Option.bind_some]
/-- the end of a step -/
theorem p_goes_end {s1 t1 : jS} {w : Int} {p : jP5} (h : Mr s M t U) (hw : w = 0 ∨ w = 1) (hs : Rs s s1 M (M + 18 + jf s 33 M 20)) (ht : Rt t t1 U) (hW : MW s1 M t1 U p)
    (h11 : jf s1 33 M 11 = 0) (h12 : jf s1 33 M 12 = 0) (h15 : jf s1 33 M 15 = jf s 33 M 15) (h22 : jf s1 33 M 22 = M + 18 + jf s 33 M 20)
    (f0 : jf s1 36 (M + 18 + jf s 33 M 20) 0 = jf s 33 M 10) (f1 : jf s1 36 (M + 18 + jf s 33 M 20) 1 = jf s 33 M 11) (f2 : jf s1 36 (M + 18 + jf s 33 M 20) 2 = jf s 33 M 12) (f3 : jf s1 36 (M + 18 + jf s 33 M 20) 3 = jf s 33 M 13) (f4 : jf s1 36 (M + 18 + jf s 33 M 20) 4 = jf s 33 M 14) (f5 : jf s1 36 (M + 18 + jf s 33 M 20) 5 = jf s 33 M 15) (f6 : jf s1 36 (M + 18 + jf s 33 M 20) 6 = jf s 33 M 18) (f7 : jf s1 36 (M + 18 + jf s 33 M 20) 7 = jf s 33 M 17) (f8 : jf s1 36 (M + 18 + jf s 33 M 20) 8 = -1) (f9 : jf s1 36 (M + 18 + jf s 33 M 20) 11 = 0)
    (hA : 10 ≤ p.1 ∧ p.1 < 18 → 0 ≤ W32 (jf t1 1000 (U + 9) p.2.2.1 + p.2.2.2.2) ∧ W32 (jf t1 1000 (U + 9) p.2.2.1 + p.2.2.2.2) + wid p.1 ≤ 131072) :
    jE2 (if w = 0 then u_X29_goes_62 s1 M else u_X29_goes_52 s1 M) ((m_X43_keep (jp (jp t1 47 U 17 (jf t 47 U 17)) 47 U 18 (jf t 47 U 18)) U).bind fun q5 => (m_X43_work (jp (jp q5.1 47 U 17 0) 47 U 18 0) U).bind fun q8 =>
      some (jp (jp q8.1 47 U 20 (W32 (jf q8.1 47 U 20 + 1))) 47 U 21 (W32 (jf (jp q8.1 47 U 20 (W32 (jf q8.1 47 U 20 + 1))) 47 U 21 + w)), jf (jp (jp q8.1 47 U 20 (W32 (jf q8.1 47 U 20 + 1))) 47 U 21 (W32 (jf (jp q8.1 47 U 20 (W32 (jf q8.1 47 U 20 + 1))) 47 U 21 + w))) 47 U 17)) (GQ s M t U) := by
  have hh := h
  obtain ⟨hK, hP, hMem, hMark, hSeg, hReg, hIn, hOut, hHalt, hSc, hRing⟩ := hh
  have hM0 := hK.1
  have hR := hRing
  unfold MrRing at hR
  obtain ⟨a1, a2, a3, a4, a5, a6, a7, a8⟩ := hR
  have hS := hSc
  unfold MrSc at hS
  generalize hT4 : jp (jp t1 47 U 17 (jf t 47 U 17)) 47 U 18 (jf t 47 U 18) = t4
  have t4f : ∀ k, ¬ k = 17 → ¬ k = 18 → k < 25 → jf t4 47 U k = jf t 47 U k := fun k x y z => by
    rw [← hT4, jf_jp, if_neg (by omega), jf_jp, if_neg (by omega)]; exact ht.2 47 U k (by omega) (by omega)
  have t417 : jf t4 47 U 17 = jf t 47 U 17 := by rw [← hT4]; simp only [eq_self, or_true, true_or, or_false, false_or, jfc_jp, jupp_p, jup_a, Int.add_right_inj, Int.add_left_inj, Int.reduceEq, if_true, if_false, true_and, and_true, false_and, and_false, reduceIte]
  have t418 : jf t4 47 U 18 = jf t 47 U 18 := by rw [← hT4]; simp only [eq_self, or_true, true_or, or_false, false_or, jfc_jp, jupp_p, jup_a, Int.add_right_inj, Int.add_left_inj, Int.reduceEq, if_true, if_false, true_and, and_true, false_and, and_false, reduceIte]
  have t4g : ∀ c a k, ¬ (c = 47 ∧ a = U ∧ (k = 17 ∨ k = 18)) → jf t4 c a k = jf t1 c a k := fun c a k x => by
    rw [← hT4, jf_jp, if_neg (by omega), jf_jp, if_neg (by omega)]
  have t4s : jSm t1 t4 := by rw [← hT4]; exact jSm.rfl
  obtain ⟨t5, e5, m5, g5, g24, g23, k0, k1, k2, k3, k4, k5, k6, k7, k8, k10⟩ := s_keep (t := t4) (U := U) (by rw [t4f 24 (by omega) (by omega) (by omega)]; exact a6) (by rw [t4f 24 (by omega) (by omega) (by omega)]; exact a7) (by rw [t4f 23 (by omega) (by omega) (by omega)]; exact a4) (by rw [t4f 23 (by omega) (by omega) (by omega)]; exact a5)
  rw [t4f 24 (by omega) (by omega) (by omega)] at g24 g5 k0 k1 k2 k3 k4 k5 k6 k7 k8 k10
  rw [t4f 23 (by omega) (by omega) (by omega)] at g23
  rw [t4f 11 (by omega) (by omega) (by omega)] at k0
  rw [t417] at k1
  rw [t418] at k2
  rw [t4f 19 (by omega) (by omega) (by omega)] at k3
  rw [t4f 20 (by omega) (by omega) (by omega)] at k4
  rw [t4f 21 (by omega) (by omega) (by omega)] at k5
  rw [t4f 16 (by omega) (by omega) (by omega)] at k6
  rw [t4f 14 (by omega) (by omega) (by omega)] at k7
  rw [e5, Option.bind_some]
  generalize hT7 : jp (jp t5 47 U 17 0) 47 U 18 0 = t7
  have t7g : ∀ c a k, ¬ (c = 47 ∧ a = U ∧ (k = 17 ∨ k = 18)) → jf t7 c a k = jf t5 c a k := fun c a k x => by
    rw [← hT7, jf_jp, if_neg (by omega), jf_jp, if_neg (by omega)]
  have t717 : jf t7 47 U 17 = 0 := by rw [← hT7]; simp only [eq_self, or_true, true_or, or_false, false_or, jfc_jp, jupp_p, jup_a, Int.add_right_inj, Int.add_left_inj, Int.reduceEq, if_true, if_false, true_and, and_true, false_and, and_false, reduceIte]
  have t718 : jf t7 47 U 18 = 0 := by rw [← hT7]; simp only [eq_self, or_true, true_or, or_false, false_or, jfc_jp, jupp_p, jup_a, Int.add_right_inj, Int.add_left_inj, Int.reduceEq, if_true, if_false, true_and, and_true, false_and, and_false, reduceIte]
  have t7s : jSm t5 t7 := by rw [← hT7]; exact jSm.rfl
  have t7m : jSm t t7 := ((ht.1.trans t4s).trans m5).trans t7s
  have t7f : ∀ c a k, ¬ (c = 1000 ∧ a = U + 2) → ¬ (c = 47 ∧ a = U ∧ (25 ≤ k ∨ k = 17 ∨ k = 18 ∨ k = 23 ∨ k = 24)) → ¬ (c = 1000 ∧ a = U + 12 ∧ 13 * jf t 47 U 24 ≤ k ∧ k ≤ 13 * jf t 47 U 24 + 12) → jf t7 c a k = jf t c a k := fun c a k x y z => by
    rw [t7g _ _ _ (by omega), g5 _ _ _ z (by omega), t4g _ _ _ (by omega)]; exact ht.2 c a k x (by omega)
  -- the component's heap, the unit counted
  obtain ⟨s5, hs5, c5, n5⟩ : ∃ s5, (if w = 0 then u_X29_goes_62 s1 M else u_X29_goes_52 s1 M) = u_X29_goes_62 s5 M ∧ (s5 = s1 ∨ ∃ v, s5 = jp s1 33 M 15 v) ∧ jf s5 33 M 15 = W32 (jf t 47 U 21 + w) := by
    rcases hw with rfl | rfl
    · refine ⟨s1, by rw [if_pos rfl], .inl rfl, ?_⟩
      rw [h15, Int.add_zero, W32_in (by omega) (by omega)]; omega
    · refine ⟨jp s1 33 M 15 (W32 (jf t 47 U 21 + 1)), ?_, .inr ⟨_, rfl⟩, by simp only [eq_self, or_true, true_or, or_false, false_or, jfc_jp, jupp_p, jup_a, Int.add_right_inj, Int.add_left_inj, Int.reduceEq, if_true, if_false, true_and, and_true, false_and, and_false, reduceIte]⟩
      rw [if_neg (by omega), eu_X29_goes_52]; unfold du_X29_goes_52
      simp only [jls]
      rw [h15, show jf s 33 M 15 = jf t 47 U 21 by omega]
  rw [hs5]
  have R5 : Rs s s5 M (M + 18 + jf s 33 M 20) := by
    rcases c5 with rfl | ⟨v, rfl⟩
    · exact hs
    · exact hs.jp (by omega)
  have s5f : ∀ c a k, ¬ (c = 33 ∧ a = M ∧ k = 15) → jf s5 c a k = jf s1 c a k := by
    rcases c5 with rfl | ⟨v, rfl⟩
    · exact fun _ _ _ _ => rfl
    · exact fun c a k x => by rw [jf_jp, if_neg x]
  have WK := begin_Wk h R5 (by rw [s5f _ _ _ (by omega)]; exact h11) (by rw [s5f _ _ _ (by omega)]; exact h12) (by rw [s5f _ _ _ (by omega)]; exact h22) (by rw [s5f _ _ _ (by omega)]; exact f0) (by rw [s5f _ _ _ (by omega)]; exact f1) (by rw [s5f _ _ _ (by omega)]; exact f2) (by rw [s5f _ _ _ (by omega)]; exact f3) (by rw [s5f _ _ _ (by omega)]; exact f4) (by rw [s5f _ _ _ (by omega)]; exact f5) (by rw [s5f _ _ _ (by omega)]; exact f6) (by rw [s5f _ _ _ (by omega)]; exact f7) (by rw [s5f _ _ _ (by omega)]; exact f8) (by rw [s5f _ _ _ (by omega)]; exact f9)
    t7m t7f t717 t718 (by rw [t7g _ _ _ (by omega)]; exact g24) (by rw [t7g _ _ _ (by omega)]; exact g23) (by rw [t7g _ _ _ (by omega)]; exact k0) (by rw [t7g _ _ _ (by omega)]; exact k1) (by rw [t7g _ _ _ (by omega)]; exact k2) (by rw [t7g _ _ _ (by omega)]; exact k3) (by rw [t7g _ _ _ (by omega)]; exact k4) (by rw [t7g _ _ _ (by omega)]; exact k5) (by rw [t7g _ _ _ (by omega)]; exact k6) (by rw [t7g _ _ _ (by omega)]; exact k7) (by rw [t7g _ _ _ (by omega)]; exact k8) (by rw [t7g _ _ _ (by omega)]; exact k10)
  have t7t1 : ∀ c a k, ¬ (c = 47 ∧ a = U ∧ (k = 17 ∨ k = 18 ∨ k = 23 ∨ k = 24)) → ¬ (c = 1000 ∧ a = U + 12) → jf t7 c a k = jf t1 c a k := fun c a k x y => by
    rw [t7g _ _ _ (by omega), g5 _ _ _ (by omega) (by omega), t4g _ _ _ (by omega)]
  have MW7 : MW s5 M t7 U p := MW_of hW (jf_fn2 fun a k => s5f 34 a k (by omega)) (t7t1 _ _ _ (by omega) (by omega)) (t7t1 _ _ _ (by omega) (by omega)) (jf_fn fun k => t7t1 _ _ _ (by omega) (by omega))
  have e9 : jf t7 1000 (U + 9) = jf t1 1000 (U + 9) := jf_fn fun k => t7t1 _ _ _ (by omega) (by omega)
  have e20 : jf t7 47 U 20 = jf t 47 U 20 := t7f _ _ _ (by omega) (by omega) (by omega)
  rw [eu_X29_goes_62]; unfold du_X29_goes_62
  simp only [jls]
  refine jE2_call (p_does WK MW7 t717 (by rw [e20]; omega) (by rw [e9]; exact hA)) fun a b ⟨wk, wf, wg⟩ => ?_
  have c20 : jf a.1 33 M 20 = jf s 33 M 20 := by rw [wg.1 20 (by omega), s5f _ _ _ (by omega)]; exact hs.2 _ _ _ (by omega) (by omega) (by omega)
  have c21 : jf a.1 33 M 21 = jf s 33 M 21 := by rw [wg.1 21 (by omega), s5f _ _ _ (by omega)]; exact hs.2 _ _ _ (by omega) (by omega) (by omega)
  have c15 : jf a.1 33 M 15 = W32 (jf t 47 U 21 + w) := by rw [wg.1 15 (by omega), n5]
  have b20 : jf b.1 47 U 20 = jf t 47 U 20 := by rw [wg.2 20 (by omega), e20]
  have b21 : jf b.1 47 U 21 = jf t 47 U 21 := by rw [wg.2 21 (by omega)]; exact t7f _ _ _ (by omega) (by omega) (by omega)
  obtain ⟨⟨xK, xP, xMem, xMark, xSeg, xReg, xIn, xOut, xHalt, xSc, xRing⟩, xnow, x23⟩ := wk
  have c14 : jf a.1 33 M 14 = jf t 47 U 20 := by
    have := xSc.2.2.2.2.2.2.1.1
    rw [aC_x _ _ _ _ _ (by decide) (by decide) (by decide)] at this
    omega
  have w1 : W32 (jf s 33 M 20 + 1) = jf s 33 M 20 + 1 := W32_in (by omega) (by omega)
  have w2 : W32 (jf s 33 M 21 + 1) = jf s 33 M 21 + 1 := W32_in (by omega) (by omega)
  have z20 : jf (jp a.1 33 M 14 (W32 (jf t 47 U 20 + 1))) 33 M 20 = jf s 33 M 20 := by rw [jf_jp, if_neg (by omega)]; exact c20
  rw [c14, b20, z20, w1]
  have hif : (if jf s 33 M 20 = 100 then u_X29_goes_100 (jp a.1 33 M 14 (W32 (jf t 47 U 20 + 1))) M 0 M else u_X29_goes_100 (jp a.1 33 M 14 (W32 (jf t 47 U 20 + 1))) M (jf s 33 M 20 + 1) M) = u_X29_goes_100 (jp a.1 33 M 14 (W32 (jf t 47 U 20 + 1))) M (if jf s 33 M 20 = 100 then 0 else jf s 33 M 20 + 1) M := by
    split <;> rfl
  rw [hif, eu_X29_goes_100]; unfold du_X29_goes_100
  simp only [jls]
  generalize hn : (if jf s 33 M 20 = 100 then (0 : Int) else jf s 33 M 20 + 1) = n at *
  have z21 : jf (jp (jp a.1 33 M 14 (W32 (jf t 47 U 20 + 1))) 33 M 20 n) 33 M 21 = jf s 33 M 21 := by rw [jf_jp, if_neg (by omega), jf_jp, if_neg (by omega)]; exact c21
  have y21 : jf (jp b.1 47 U 20 (W32 (jf t 47 U 20 + 1))) 47 U 21 = jf t 47 U 21 := by rw [jf_jp, if_neg (by omega)]; exact b21
  rw [z21, w2, y21]
  generalize hk : jmi 100 (jf s 33 M 21 + 1) = kk at *
  have r1 := W32_lo (jf t 47 U 20 + 1)
  have r2 := W32_lo (jf t 47 U 21 + w)
  refine jE2_some.mpr ⟨?_, ?_, ?_, rfl, .inl ⟨Wz_1, ?_⟩⟩
  · unfold Mr; simp only [eq_self, or_true, true_or, or_false, false_or, jfc_jp, jupp_p, jup_a, Int.add_right_inj, Int.add_left_inj, Int.reduceEq, if_true, if_false, true_and, and_true, false_and, and_false, reduceIte]
    refine ⟨xK, xP.at (by simp only [eq_self, or_true, true_or, or_false, false_or, jfc_jp, jupp_p, jup_a, Int.add_right_inj, Int.add_left_inj, Int.reduceEq, if_true, if_false, true_and, and_true, false_and, and_false, reduceIte]), xMem, xMark, xSeg, xReg, ?_, xOut, ?_, ?_, ?_⟩
    · unfold MrIn at *; simp only [eq_self, or_true, true_or, or_false, false_or, jfc_jp, jupp_p, jup_a, Int.add_right_inj, Int.add_left_inj, Int.reduceEq, if_true, if_false, true_and, and_true, false_and, and_false, reduceIte]; rw [aC_x _ _ _ _ _ (by decide) (by decide) (by decide)] at xIn; exact xIn
    · unfold MrHalt at *; simp only [eq_self, or_true, true_or, or_false, false_or, jfc_jp, jupp_p, jup_a, Int.add_right_inj, Int.add_left_inj, Int.reduceEq, if_true, if_false, true_and, and_true, false_and, and_false, reduceIte]; rw [aC_x _ _ _ _ _ (by decide) (by decide) (by decide)] at xHalt; exact xHalt
    · unfold MrSc at xSc ⊢
      simp only [aC_x _ _ _ _ 9 (by decide) (by decide) (by decide), aC_x _ _ _ _ 10 (by decide) (by decide) (by decide), aC_x _ _ _ _ 11 (by decide) (by decide) (by decide), aC_x _ _ _ _ 12 (by decide) (by decide) (by decide), aC_x _ _ _ _ 13 (by decide) (by decide) (by decide), aC_x _ _ _ _ 14 (by decide) (by decide) (by decide), aC_x _ _ _ _ 17 (by decide) (by decide) (by decide), aC_x _ _ _ _ 18 (by decide) (by decide) (by decide)] at xSc
      simp only [eq_self, or_true, true_or, or_false, false_or, jfc_jp, jupp_p, jup_a, Int.add_right_inj, Int.add_left_inj, Int.reduceEq, if_true, if_false, true_and, and_true, false_and, and_false, reduceIte]
      obtain ⟨x1, x2, x3, x4, x5, x6, x7, x8, x9⟩ := xSc
      exact ⟨x1, x2, x3, x4, x5, x6, r1, ⟨c15, r2⟩, x9⟩
    · unfold MrRing at *; simp only [eq_self, or_true, true_or, or_false, false_or, jfc_jp, jupp_p, jup_a, Int.add_right_inj, Int.add_left_inj, Int.reduceEq, if_true, if_false, true_and, and_true, false_and, and_false, reduceIte]
      exact xRing
  · refine jFm.trans (t := s5) (R5.fm (by omega) (by omega)) (wf.1.trans ?_)
    (repeat' (first | exact jFm.rfl | refine jFm.jp ?_ (by omega) (by omega)))
  · refine jFm.trans (t := t7) ⟨t7m, fun c x k q => t7f c x k (by omega) (by omega) (by omega)⟩ (wf.2.1.trans ?_)
    (repeat' (first | exact jFm.rfl | refine jFm.jp ?_ (by omega) (by omega)))
  · simp only [eq_self, or_true, true_or, or_false, false_or, jfc_jp, jupp_p, jup_a, Int.add_right_inj, Int.add_left_inj, Int.reduceEq, if_true, if_false, true_and, and_true, false_and, and_false, reduceIte]
theorem p_goes (h : Mr s M t U) (hst : jf t 47 U 17 = 0 ∨ jf t 47 U 17 = 9) : jE2 (m_X29_goes s M) (m_X43_step t U) (GQ s M t U) := by
  have hh := h
  obtain ⟨hK, hP, hMem, hMark, hSeg, hReg, hIn, hOut, hHalt, hSc, hRing⟩ := hh
  have hM0 := hK.1
  have hR := hRing
  unfold MrRing at hR
  obtain ⟨a1, a2, a3, a4, a5, a6, a7, a8⟩ := hR
  have hS := hSc
  unfold MrSc at hS
  obtain ⟨s1, n1, R1, nC, n22, f0, f1, f2, f3, f4, f5, f6, f7, f8, f9⟩ := s_note hK a1 a2
  obtain ⟨w, hw, hu, hC⟩ := p_unit h
  rw [em_X29_goes, em_X43_step]; unfold dm_X29_goes dm_X43_step
  rw [n1, e_X43_isEnd, Option.bind_some, Option.bind_some, if_neg (show ¬ (¬ jf t 47 U 17 = 0 ∧ ¬ jf t 47 U 17 = 9) by omega), if_pos rfl, hu, Option.bind_some]
  have hy : (if w = 0 then u_X43_step_24 t U 0 else u_X43_step_24 t U 1) = u_X43_step_24 t U w := by
    rcases hw with rfl | rfl
    · rw [if_pos rfl]
    · rw [if_neg (by omega)]
  rw [hy, eu_X43_step_24]; unfold du_X43_step_24
  simp only [jls]
  generalize hS3 : jp (jp s1 33 M 11 0) 33 M 12 0 = s3
  have R3 : Rs s s3 M (M + 18 + jf s 33 M 20) := by rw [← hS3]; exact (R1.jp (by omega)).jp (by omega)
  have s3f : ∀ c a k, ¬ (c = 33 ∧ a = M ∧ (k = 11 ∨ k = 12)) → jf s3 c a k = jf s1 c a k := fun c a k x => by rw [← hS3, jf_jp, if_neg (by omega), jf_jp, if_neg (by omega)]
  have s311 : jf s3 33 M 11 = 0 := by rw [← hS3]; simp only [eq_self, or_true, true_or, or_false, false_or, jfc_jp, jupp_p, jup_a, Int.add_right_inj, Int.add_left_inj, Int.reduceEq, if_true, if_false, true_and, and_true, false_and, and_false, reduceIte]
  have s312 : jf s3 33 M 12 = 0 := by rw [← hS3]; simp only [eq_self, or_true, true_or, or_false, false_or, jfc_jp, jupp_p, jup_a, Int.add_right_inj, Int.add_left_inj, Int.reduceEq, if_true, if_false, true_and, and_true, false_and, and_false, reduceIte]
  have s315 : jf s3 33 M 15 = jf s 33 M 15 := by rw [s3f _ _ _ (by omega)]; exact nC _ (by omega)
  have m3 : ∀ c a, ¬ c = 36 → ¬ c = 34 → ¬ c = 33 → jf s3 c a = jf s c a := fun c a x y z => jf_fn fun k => R3.2 c a k (by omega) (by omega) (by omega)
  have m35 : jf s3 35 = jf s 35 := jf_fn2 fun a k => R3.2 35 a k (by omega) (by omega) (by omega)
  have pc3 : jf s3 33 M 10 = jf t 47 U 11 := by rw [s3f _ _ _ (by omega), nC _ (by omega)]; exact hS.2.1
  refine jE2_call (p_taken (hK.sm R3.1) hP pc3 ⟨hS.2.2.1.1, hS.2.2.1.2.1⟩ (by rw [m3 _ _ (by omega) (by omega) (by omega)]; exact hMem) (by rw [m35]; exact hSeg)) fun r q hT => ?_
  rcases hT with hF | ⟨z1, z2, hCw, hTw, p, hW⟩
  · rw [if_pos hF.1, if_pos hF.2.1, eu_X43_step_49]; unfold du_X43_step_49
    rw [Wz_0]
    exact jE2_some.mpr (MF_goes h R3 s315 ⟨jSm.rfl, fun _ _ _ _ _ => rfl⟩ hF)
  rw [if_neg (by omega), if_neg (by omega)]
  have Rr : Rs s r.1 M (M + 18 + jf s 33 M 20) := R3.trans (Rs.of hCw)
  have Tq : Rt t q.1 U := Rt.of hTw
  have mr : ∀ c a, ¬ c = 36 → ¬ c = 34 → ¬ c = 33 → jf r.1 c a = jf s c a := fun c a x y z => jf_fn fun k => Rr.2 c a k (by omega) (by omega) (by omega)
  have mr35 : jf r.1 35 = jf s 35 := jf_fn2 fun a k => Rr.2 35 a k (by omega) (by omega) (by omega)
  have tq : ∀ c a, ¬ c = 47 → ¬ (c = 1000 ∧ a = U + 2) → jf q.1 c a = jf t c a := fun c a x y => jf_fn fun k => Tq.2 c a k y (by omega)
  have rC : ∀ k, jf r.1 33 M k = jf s3 33 M k := fun k => hCw.2 33 M k (by omega)
  have r36 : ∀ k, jf r.1 36 (M + 18 + jf s 33 M 20) k = jf s1 36 (M + 18 + jf s 33 M 20) k := fun k => by rw [hCw.2 _ _ _ (by omega), s3f _ _ _ (by omega)]
  refine jE2_call (p_allowed (hK.sm Rr.1) hW (by rw [mr _ _ (by omega) (by omega) (by omega), tq _ _ (by omega) (by omega)]; exact hReg) (by rw [mr35, tq _ (U + 5) (by omega) (by omega), tq _ (U + 6) (by omega) (by omega), tq _ (U + 7) (by omega) (by omega)]; exact hSeg)) fun r' q' hA => ?_
  rcases hA with hF | ⟨z3, z4, hA⟩
  · rw [if_pos hF.1, if_pos hF.2.1, eu_X43_step_49]; unfold du_X43_step_49
    rw [Wz_0]
    exact jE2_some.mpr (MF_goes h Rr (by rw [rC]; exact s315) Tq hF)
  subst z3; subst z4
  simp only [show ((1 : Int) = 0) = False by simp, if_false]
  refine jE2_eqL (hC r.1 (mr _ _ (by omega) (by omega) (by omega)) (by rw [rC, s3f _ _ _ (by omega)]; exact nC _ (by omega)) (by rw [rC, pc3]; exact hS.2.1.symm)) ?_
  exact p_goes_end h hw Rr Tq hW (by rw [rC]; exact s311) (by rw [rC]; exact s312) (by rw [rC]; exact s315) (by rw [rC, s3f _ _ _ (by omega)]; exact n22) (by rw [r36]; exact f0) (by rw [r36]; exact f1) (by rw [r36]; exact f2) (by rw [r36]; exact f3) (by rw [r36]; exact f4) (by rw [r36]; exact f5) (by rw [r36]; exact f6) (by rw [r36]; exact f7) (by rw [r36]; exact f8) (by rw [r36]; exact f9) hA
end jMgoes2
