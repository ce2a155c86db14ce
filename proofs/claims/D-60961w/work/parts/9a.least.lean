/-! the shorter word: the runs -/
set_option maxRecDepth 100000
section jLeast
variable {s t : jS} {W V : Int}
theorem accK_dec (k : Nat) (w : Int) (q : jP4) : accK k w q ∨ ¬ accK k w q := Classical.em _
/-- the component tries one short kind -/
theorem c_shrunk (h : pWd s W) {k : Nat} (hk : k < 75) (h48 : 48 ≤ k) {w : Int} (hw : -2147483648 ≤ w ∧ w ≤ 2147483647) (hw3 : w % 4 = 3) (ht : pTk (pLK k) w = true) :
    ∃ s' r, m_X2_shrunk s W (jf s 1008 (W + 23) k) (jf s 1008 (W + 23) (pLK k : Int)) w = some (s', r) ∧ Wrw s s' W ∧ (accK k w (Pcs k (pPt (pLK k) w)) → r = pPut k (Pcs k (pPt (pLK k) w))) ∧ (¬ accK k w (Pcs k (pPt (pLK k) w)) → r = -1) := by
  have hL := pLK_lt k h48 hk
  have hA := h.1 k hk
  have hB := h.1 (pLK k) (by omega)
  obtain ⟨s1, s2, s3, s4, s5, s6⟩ := hA.2.2.2.2.2.2.2.2.2 h48
  have tsl := tab_SL k hk h48
  generalize hKA : jf s 1008 (W + 23) k = A at *
  generalize hKB : jf s 1008 (W + 23) (pLK k : Int) = B at *
  generalize hP : pPt (pLK k) w = P at *
  have hpw : pWh w = w := by unfold pWh; rw [if_pos hw3]
  -- parts of the long word, in any such heap
  have prt : ∀ u : jS, Wrw s u W → ∀ e : Nat, e < 4 → jct u 27 B (m_X7_part u B w e) = some (p4g P e) := by
    intro u hu e he
    have hu' := (h.keep hu).1 (pLK k) (by omega)
    have eB : jf u 1008 (W + 23) (pLK k : Int) = B := by rw [hu.2 _ _ _ (by omega)]; exact hKB
    rw [eB] at hu'
    rw [jct_in hu'.t, s_X7_part hu' (by omega) he hw]
    cases hq : pRes (pLK k) w with
    | none => unfold pTk at ht; rw [hq] at ht; cases ht
    | some q =>
      have hp : pPt (pLK k) w = pAdj (pLK k) q := by unfold pPt; rw [hq]
      rw [← hP, hp, take_adj (by omega) hq he]
  have std : ∀ u : jS, Wrw s u W → jrd u 11 A 6 = some (jf s 11 A 6) ∧ ∀ j, jrd u 13 (jf s 11 A 6) j = some (jf s 13 (jf s 11 A 6) j) := by
    intro u hu
    refine ⟨?_, fun j => ?_⟩
    · rw [jrd_in hA.1.1 (by rw [hu.1.1]; exact hA.1.2.2.1), hu.2 _ _ _ (by omega)]
    · rw [jrd_in s1 (by rw [hu.1.1]; exact s2), hu.2 _ _ _ (by omega)]
  -- the first loop
  have st3 : ∀ (u : jS) (p q : Int), 0 ≤ p → p ≤ 2 → q = p + 1 → jc5 b_X2_shrunk_3 [W, A, B, w, p] u = some (.inl (jp u 1000 (W + 24) p 0, [W, A, B, w, q])) := by
    intro u p q p0 p1 hq
    show b_X2_shrunk_3 u W A B w p = _
    unfold b_X2_shrunk_3
    rw [if_neg (by omega), jst_in (by omega) (by omega), Option.bind_some, W32_in (by omega) (by omega), hq]
  have l1 : m_X2_shrunk s W A B w = u_X2_shrunk_23 (jp (jp (jp s 1000 (W + 24) 0 0) 1000 (W + 24) 1 0) 1000 (W + 24) 2 0) W A B w := by
    rw [em_X2_shrunk]; unfold dm_X2_shrunk
    rw [eu_X2_shrunk_3, du_X2_shrunk_3, jlpW_l (st3 s 0 1 (by omega) (by omega) rfl), jlpW_l (st3 _ 1 2 (by omega) (by omega) rfl), jlpW_l (st3 _ 2 3 (by omega) (by omega) rfl)]
    apply jlpW_r
    show b_X2_shrunk_3 _ W A B w 3 = _
    unfold b_X2_shrunk_3
    rw [if_pos (by omega)]
  rw [l1]
  generalize hu1 : jp (jp (jp s 1000 (W + 24) 0 0) 1000 (W + 24) 1 0) 1000 (W + 24) 2 0 = u1
  have w1 : Wrw s u1 W := by rw [← hu1]; exact ((Wrw.rfl.jp (.inl rfl)).jp (.inl rfl)).jp (.inl rfl)
  have v1 : jf u1 1000 (W + 24) 0 = 0 ∧ jf u1 1000 (W + 24) 1 = 0 ∧ jf u1 1000 (W + 24) 2 = 0 := by
    rw [← hu1]; refine ⟨?_, ?_, ?_⟩ <;> simp only [eq_self, or_true, true_or, or_false, false_or, jfc_jp, jupp_p, jup_a, Int.add_right_inj, Int.add_left_inj, Int.reduceEq, if_true, if_false, true_and, and_true, false_and, and_false, reduceIte]
  -- the sources
  rw [eu_X2_shrunk_23]; unfold du_X2_shrunk_23
  obtain ⟨a6, a13⟩ := std u1 w1
  rw [a6, Option.bind_some, a13, Option.bind_some, s4, jst_in (by omega) (by omega), Option.bind_some]
  have w2 : Wrw s (jp u1 1000 (W + 25) 0 (cSd k).2.1) W := w1.jp (.inr rfl)
  obtain ⟨b6, b13⟩ := std _ w2
  rw [b6, Option.bind_some, b13, Option.bind_some, s5, jst_in (by omega) (by omega), Option.bind_some]
  have w3 : Wrw s (jp (jp u1 1000 (W + 25) 0 (cSd k).2.1) 1000 (W + 25) 1 (cSd k).2.2.1) W := w2.jp (.inr rfl)
  obtain ⟨c6, c13⟩ := std _ w3
  rw [c6, Option.bind_some, c13, Option.bind_some, s6, jst_in (by omega) (by omega), Option.bind_some]
  have w4 : Wrw s (jp (jp (jp u1 1000 (W + 25) 0 (cSd k).2.1) 1000 (W + 25) 1 (cSd k).2.2.1) 1000 (W + 25) 2 (cSd k).2.2.2) W := w3.jp (.inr rfl)
  rw [show jct _ 27 B (m_X7_part _ B w 3) = some (p4g P 3) from prt _ w4 3 (by omega), Option.bind_some, jst_in (by omega) (by omega), Option.bind_some]
  generalize hu5 : jp (jp (jp (jp u1 1000 (W + 25) 0 (cSd k).2.1) 1000 (W + 25) 1 (cSd k).2.2.1) 1000 (W + 25) 2 (cSd k).2.2.2) 1000 (W + 24) 3 (p4g P 3) = u5
  have w5 : Wrw s u5 W := by rw [← hu5]; exact w4.jp (.inl rfl)
  have hsrc : ∀ p : Nat, p < 3 → jf u5 1000 (W + 25) p = srcK k p := by
    intro p hp
    have : p = 0 ∨ p = 1 ∨ p = 2 := by omega
    rw [← hu5]
    rcases this with rfl | rfl | rfl
    · show jf _ 1000 (W + 25) 0 = (cSd k).2.1; simp only [eq_self, or_true, true_or, or_false, false_or, jfc_jp, jupp_p, jup_a, Int.add_right_inj, Int.add_left_inj, Int.reduceEq, if_true, if_false, true_and, and_true, false_and, and_false, reduceIte]
    · show jf _ 1000 (W + 25) 1 = (cSd k).2.2.1; simp only [eq_self, or_true, true_or, or_false, false_or, jfc_jp, jupp_p, jup_a, Int.add_right_inj, Int.add_left_inj, Int.reduceEq, if_true, if_false, true_and, and_true, false_and, and_false, reduceIte]
    · show jf _ 1000 (W + 25) 2 = (cSd k).2.2.2; simp only [eq_self, or_true, true_or, or_false, false_or, jfc_jp, jupp_p, jup_a, Int.add_right_inj, Int.add_left_inj, Int.reduceEq, if_true, if_false, true_and, and_true, false_and, and_false, reduceIte]
  have hpar : ∀ e : Nat, e < 4 → jf u5 1000 (W + 24) e = p4g (0, 0, 0, P.2.2.2) e := by
    intro e he
    have : e = 0 ∨ e = 1 ∨ e = 2 ∨ e = 3 := by omega
    rw [← hu5]
    rcases this with rfl | rfl | rfl | rfl
    · show jf _ 1000 (W + 24) 0 = 0; simp only [eq_self, or_true, true_or, or_false, false_or, jfc_jp, jupp_p, jup_a, Int.add_right_inj, Int.add_left_inj, Int.reduceEq, if_true, if_false, true_and, and_true, false_and, and_false, reduceIte]; exact v1.1
    · show jf _ 1000 (W + 24) 1 = 0; simp only [eq_self, or_true, true_or, or_false, false_or, jfc_jp, jupp_p, jup_a, Int.add_right_inj, Int.add_left_inj, Int.reduceEq, if_true, if_false, true_and, and_true, false_and, and_false, reduceIte]; exact v1.2.1
    · show jf _ 1000 (W + 24) 2 = 0; simp only [eq_self, or_true, true_or, or_false, false_or, jfc_jp, jupp_p, jup_a, Int.add_right_inj, Int.add_left_inj, Int.reduceEq, if_true, if_false, true_and, and_true, false_and, and_false, reduceIte]; exact v1.2.2
    · show jf _ 1000 (W + 24) 3 = p4g P 3; simp only [eq_self, or_true, true_or, or_false, false_or, jfc_jp, jupp_p, jup_a, Int.add_right_inj, Int.add_left_inj, Int.reduceEq, if_true, if_false, true_and, and_true, false_and, and_false, reduceIte]
  -- the second loop
  have st77 : ∀ (u : jS) (p : Nat) (Q : jP4), p < 3 → Wrw s u W → (∀ p : Nat, p < 3 → jf u 1000 (W + 25) p = srcK k p) → (∀ e : Nat, e < 4 → jf u 1000 (W + 24) e = p4g Q e) → ∃ u', jc5 b_X2_shrunk_77 [W, A, B, w, (p : Int)] u = some (.inl (u', [W, A, B, w, ((p + 1 : Nat) : Int)])) ∧ Wrw s u' W ∧ (∀ p : Nat, p < 3 → jf u' 1000 (W + 25) p = srcK k p) ∧ (∀ e : Nat, e < 4 → jf u' 1000 (W + 24) e = p4g (stepP k P p Q) e) := by
    intro u p Q hp hu hs hq
    have tsk := (tab_sk k hk h48 p hp).1
    have wi : W32 ((p : Int) + 1) = ((p + 1 : Nat) : Int) := by rw [W32_in (by omega) (by omega)]; omega
    by_cases c : srcK k p < 0
    · refine ⟨jp u 1000 (W + 24) (-1 - srcK k p) (p4g P p), ?_, hu.jp (.inl rfl), fun p' hp' => ?_, fun e he => ?_⟩
      · show b_X2_shrunk_77 u W A B w p = _
        unfold b_X2_shrunk_77
        simp only [eu_X2_shrunk_114, du_X2_shrunk_114]
        rw [if_neg (by omega), jlt_in (by omega) (by omega), Option.bind_some, hs p hp, if_pos c, Option.bind_some, prt u hu p (by omega), Option.bind_some, W32_in (z := -1 - srcK k p) (by omega) (by omega), jst_in (by omega) (by omega), Option.bind_some, wi]
      · rw [jf_jp, if_neg (by omega)]; exact hs p' hp'
      · rw [stepP_g _ _ _ _ _ hk h48 hp he, jf_jp]
        by_cases d : srcK k p = -1 - (e : Int)
        · rw [if_pos ⟨rfl, rfl, by omega⟩, if_pos d]
        · rw [if_neg (by omega), if_neg d]; exact hq e he
    · refine ⟨u, ?_, hu, hs, fun e he => ?_⟩
      · show b_X2_shrunk_77 u W A B w p = _
        unfold b_X2_shrunk_77
        simp only [eu_X2_shrunk_114, du_X2_shrunk_114]
        rw [if_neg (by omega), jlt_in (by omega) (by omega), Option.bind_some, hs p hp, if_neg c, wi]
      · rw [stepP_g _ _ _ _ _ hk h48 hp he, if_neg (by omega)]; exact hq e he
  obtain ⟨u6, e6, w6, x6, y6⟩ := st77 u5 0 _ (by omega) w5 hsrc hpar
  obtain ⟨u7, e7, w7, x7, y7⟩ := st77 u6 1 _ (by omega) w6 x6 y6
  obtain ⟨u8, e8, w8, x8, y8⟩ := st77 u7 2 _ (by omega) w7 x7 y7
  have l2 : u_X2_shrunk_77 u5 W A B w 0 = u_X2_shrunk_120 u8 W A w := by
    rw [eu_X2_shrunk_77, du_X2_shrunk_77, jlpW_l (show jc5 b_X2_shrunk_77 [W, A, B, w, 0] u5 = _ from e6), jlpW_l (show jc5 b_X2_shrunk_77 [W, A, B, w, ((0 + 1 : Nat) : Int)] u6 = _ from e7), jlpW_l (show jc5 b_X2_shrunk_77 [W, A, B, w, ((1 + 1 : Nat) : Int)] u7 = _ from e8)]
    apply jlpW_r
    show b_X2_shrunk_77 u8 W A B w 3 = _
    unfold b_X2_shrunk_77
    rw [if_pos (by omega)]
  rw [l2]
  have hu8 := h.keep w8
  have eA : jf u8 1008 (W + 23) k = A := by rw [w8.2 _ _ _ (by omega)]; exact hKA
  have hA8 := hu8.1 k hk
  rw [eA] at hA8
  rw [eu_X2_shrunk_120]; unfold du_X2_shrunk_120
  have y0 : jlt u8 1000 (W + 24) 4 0 = some (p4g (Pcs k P) 0) := by rw [jlt_in (by omega) (by omega)]; exact congrArg some (y8 0 (by omega))
  have y1 : jlt u8 1000 (W + 24) 4 1 = some (p4g (Pcs k P) 1) := by rw [jlt_in (by omega) (by omega)]; exact congrArg some (y8 1 (by omega))
  have y2 : jlt u8 1000 (W + 24) 4 2 = some (p4g (Pcs k P) 2) := by rw [jlt_in (by omega) (by omega)]; exact congrArg some (y8 2 (by omega))
  have y3 : jlt u8 1000 (W + 24) 4 3 = some (p4g (Pcs k P) 3) := by rw [jlt_in (by omega) (by omega)]; exact congrArg some (y8 3 (by omega))
  simp only [y0, y1, y2, y3, Option.bind_some, jct_in hA8.t]
  have hm := c_may4 hu8.1 (k := (k : Int)) (by omega) (by omega) (Pcs k P)
  rw [eA, Int.toNat_natCast] at hm
  by_cases g : pGood k (Pcs k P) = true
  · have m1 := hm.1 g
    rw [show m_X7_may u8 A 0 (p4g (Pcs k P) 0) = some 1 from m1 0 (by omega), show m_X7_may u8 A 1 (p4g (Pcs k P) 1) = some 1 from m1 1 (by omega), show m_X7_may u8 A 2 (p4g (Pcs k P) 2) = some 1 from m1 2 (by omega), show m_X7_may u8 A 3 (p4g (Pcs k P) 3) = some 1 from m1 3 (by omega)]
    simp only [Option.bind_some, show ((1 : Int) = 0) = False by simp, if_false]
    have hrng : ∀ e : Nat, e < 4 → -2147483648 ≤ p4g (Pcs k P) e ∧ p4g (Pcs k P) e ≤ 2147483647 := by
      have hPr : ∀ e : Nat, e < 4 → -2147483648 ≤ p4g P e ∧ p4g P e ≤ 2147483647 := by
        intro e he
        have ho := cLong_ok w
        rw [cLong_k w hw _ hL ht, hP] at ho
        obtain ⟨o1, o2, o3, o4, _⟩ := ho
        have : e = 0 ∨ e = 1 ∨ e = 2 ∨ e = 3 := by omega
        rcases this with rfl | rfl | rfl | rfl
        · show -2147483648 ≤ P.1 ∧ P.1 ≤ 2147483647; have o1 : 0 ≤ P.1 ∧ P.1 ≤ 31 := o1; omega
        · show -2147483648 ≤ P.2.1 ∧ P.2.1 ≤ 2147483647; have o2 : 0 ≤ P.2.1 ∧ P.2.1 ≤ 31 := o2; omega
        · show -2147483648 ≤ P.2.2.1 ∧ P.2.2.1 ≤ 2147483647; have o3 : 0 ≤ P.2.2.1 ∧ P.2.2.1 ≤ 31 := o3; omega
        · show -2147483648 ≤ P.2.2.2 ∧ P.2.2.2 ≤ 2147483647; have o4 : -1048576 ≤ P.2.2.2 ∧ P.2.2.2 ≤ 1048575 := o4; omega
      intro e he
      rw [Pcs_g k P hk h48 e he]
      have p0 := hPr 0 (by omega)
      have p1 := hPr 1 (by omega)
      have p2 := hPr 2 (by omega)
      have p3 := hPr 3 (by omega)
      by_cases c2 : srcK k 2 = -1 - (e : Int)
      · rw [if_pos c2]; exact p2
      rw [if_neg c2]
      by_cases c1 : srcK k 1 = -1 - (e : Int)
      · rw [if_pos c1]; exact p1
      rw [if_neg c1]
      by_cases c0 : srcK k 0 = -1 - (e : Int)
      · rw [if_pos c0]; exact p0
      rw [if_neg c0]
      have : e = 0 ∨ e = 1 ∨ e = 2 ∨ e = 3 := by omega
      rcases this with rfl | rfl | rfl | rfl
      · show (-2147483648 : Int) ≤ 0 ∧ (0 : Int) ≤ 2147483647; omega
      · show (-2147483648 : Int) ≤ 0 ∧ (0 : Int) ≤ 2147483647; omega
      · show (-2147483648 : Int) ≤ 0 ∧ (0 : Int) ≤ 2147483647; omega
      · exact p3
    have hmd := c_made hu8.1 (k := (k : Int)) (by omega) (by omega) (d := p4g (Pcs k P) 0) (a := p4g (Pcs k P) 1) (b := p4g (Pcs k P) 2) (i := p4g (Pcs k P) 3) (by rw [Int.toNat_natCast]; exact g) hrng
    rw [eA, Int.toNat_natCast] at hmd
    rw [hmd, Option.bind_some]
    have hq4 : (p4g (Pcs k P) 0, p4g (Pcs k P) 1, p4g (Pcs k P) 2, p4g (Pcs k P) 3) = Pcs k P := rfl
    rw [hq4]
    have hrt := rt_k (Pcs k P).1 (Pcs k P).2.1 (Pcs k P).2.2.1 (Pcs k P).2.2.2 k hk g
    have hrt : pTk k (pPut k (Pcs k P)) = true ∧ pPt k (pPut k (Pcs k P)) = nrm k (Pcs k P) := hrt
    have hst := c_stretched hu8.1 hk h48 (pPut_lt h48 (Pcs k P)) hrt.1
    rw [eA] at hst
    rw [hst, Option.bind_some, hrt.2]
    by_cases z : pPut (pLK k) (pStr k (nrm k (Pcs k P))) = w
    · rw [if_pos z]
      exact ⟨u8, _, rfl, w8, fun _ => rfl, fun q => absurd ⟨g, z⟩ q⟩
    · rw [if_neg z]
      exact ⟨u8, _, rfl, w8, fun q => absurd q.2 z, fun _ => rfl⟩
  · obtain ⟨e, he, m0, m1⟩ := hm.2 g
    refine ⟨u8, -1, ?_, w8, fun q => absurd q.1 g, fun _ => rfl⟩
    have : e = 0 ∨ e = 1 ∨ e = 2 ∨ e = 3 := by omega
    rcases this with rfl | rfl | rfl | rfl
    · rw [show m_X7_may u8 A 0 (p4g (Pcs k P) 0) = some 0 from m0, Option.bind_some, if_pos rfl]
    · rw [show m_X7_may u8 A 0 (p4g (Pcs k P) 0) = some 1 from m1 0 (by omega), Option.bind_some, if_neg (by omega), show m_X7_may u8 A 1 (p4g (Pcs k P) 1) = some 0 from m0, Option.bind_some, if_pos rfl]
    · rw [show m_X7_may u8 A 0 (p4g (Pcs k P) 0) = some 1 from m1 0 (by omega), Option.bind_some, if_neg (by omega), show m_X7_may u8 A 1 (p4g (Pcs k P) 1) = some 1 from m1 1 (by omega), Option.bind_some, if_neg (by omega), show m_X7_may u8 A 2 (p4g (Pcs k P) 2) = some 0 from m0, Option.bind_some, if_pos rfl]
    · rw [show m_X7_may u8 A 0 (p4g (Pcs k P) 0) = some 1 from m1 0 (by omega), Option.bind_some, if_neg (by omega), show m_X7_may u8 A 1 (p4g (Pcs k P) 1) = some 1 from m1 1 (by omega), Option.bind_some, if_neg (by omega), show m_X7_may u8 A 2 (p4g (Pcs k P) 2) = some 1 from m1 2 (by omega), Option.bind_some, if_neg (by omega), show m_X7_may u8 A 3 (p4g (Pcs k P) 3) = some 0 from m0, Option.bind_some, if_pos rfl]
/-- the twin tries one short kind -/
theorem t_try (hR : pRows t (V + 1)) {k : Nat} (hk : k < 75) (h48 : 48 ≤ k) {w kd : Int} (hw : -2147483648 ≤ w ∧ w ≤ 2147483647) (hd : isKd w kd) (h0 : ¬ kd = -1) (hw3 : w % 4 = 3) :
    ∃ q, ((kd = (pLK k : Int) ∧ accK k w (pPt kd.toNat w)) → b_X38_shrink_3 t V w k = jinr (some (pw4 t (V + 2) q, pPut k (pPt kd.toNat w)))) ∧ (¬ (kd = (pLK k : Int) ∧ accK k w (pPt kd.toNat w)) → b_X38_shrink_3 t V w k = some (.inl (pw4 t (V + 2) q, [V, w, ((k + 1 : Nat) : Int)]))) := by
  obtain ⟨q, r, f1, f2, f3⟩ := t_find hR hw
  have := isKd_one f2 hd
  subst this
  obtain ⟨r0, r1, r2, r3, r4⟩ := isKd_t hd h0
  have r48 := r3 hw3
  have hq := f3 h0
  subst hq
  have wi : W32 ((k : Int) + 1) = ((k + 1 : Nat) : Int) := by rw [W32_in (by omega) (by omega)]; omega
  unfold b_X38_shrink_3
  rw [if_pos (by omega), f1, Option.bind_some, lk38_k _ k hk h48, Option.bind_some]
  simp only [eu_X38_shrink_63, du_X38_shrink_63, wi]
  generalize hP : pPt r.toNat w = P at *
  have hR1 : pRows (pw4 t (V + 2) P) (V + 1) := pRows_pw4 hR (by omega)
  by_cases c : r = (pLK k : Int)
  · rw [if_pos c, s_X38_areGood t V k P hR (by omega) (by omega), Option.bind_some, Int.toNat_natCast]
    by_cases g : pGood k P = true
    · rw [if_pos g, if_neg (by omega)]
      have hPr : ∀ e : Nat, e < 4 → -2147483640 ≤ p4g P e ∧ p4g P e ≤ 2147483647 := by
        intro e he
        have ho := cLong_ok w
        rw [cLong_k w hw r.toNat (by omega) r2, hP] at ho
        obtain ⟨o1, o2, o3, o4, _⟩ := ho
        have : e = 0 ∨ e = 1 ∨ e = 2 ∨ e = 3 := by omega
        rcases this with rfl | rfl | rfl | rfl
        · show -2147483640 ≤ P.1 ∧ P.1 ≤ 2147483647; have o1 : 0 ≤ P.1 ∧ P.1 ≤ 31 := o1; omega
        · show -2147483640 ≤ P.2.1 ∧ P.2.1 ≤ 2147483647; have o2 : 0 ≤ P.2.1 ∧ P.2.1 ≤ 31 := o2; omega
        · show -2147483640 ≤ P.2.2.1 ∧ P.2.2.1 ≤ 2147483647; have o3 : 0 ≤ P.2.2.1 ∧ P.2.2.1 ≤ 31 := o3; omega
        · show -2147483640 ≤ P.2.2.2 ∧ P.2.2.2 ≤ 2147483647; have o4 : -1048576 ≤ P.2.2.2 ∧ P.2.2.2 ≤ 1048575 := o4; omega
      rw [s_X38_put t V k P hR (by omega) (by omega) hPr, Option.bind_some, Int.toNat_natCast]
      have hlt := pPut_lt h48 P
      have hrt : pTk k (pPut k P) = true ∧ pPt k (pPut k P) = nrm k P := rt_k P.1 P.2.1 P.2.2.1 P.2.2.2 k hk g
      obtain ⟨q2, r', g1, g2, g3⟩ := t_find (t := pw4 t (V + 2) P) (V := V) hR1 (w := pPut k P) (by omega)
      have n3 := short_3 _ k hk h48 hrt.1
      have hr' : r' = (k : Int) := by
        have hne : ¬ r' = -1 := by
          intro z
          unfold isKd at g2
          rw [if_neg n3, if_neg n3] at g2
          rcases g2 with ⟨z0, _⟩ | ⟨_, z2⟩
          · omega
          · exact z2 k (by omega) (by omega) (by rw [Int.toNat_natCast]; exact hrt.1)
        obtain ⟨x0, x1, x2, x3, x4⟩ := isKd_t g2 hne
        have := pTk_oneS hlt.1 hlt.2 (k := r'.toNat) (j := k) (by omega) (by have := x4 n3; omega) hk h48 x2 hrt.1
        omega
      subst hr'
      have hq2 := g3 (by omega)
      rw [Int.toNat_natCast, hrt.2] at hq2
      rw [g1, Option.bind_some, if_pos rfl, pw4_pw4, hq2, s38_stretch_k t V _ k hk h48]
      have hstk := st_k (pPut k P) k hk h48 hrt.1
      rw [hrt.2] at hstk
      have hL := pLK_lt k h48 hk
      rw [s_X38_put t V (pLK k : Int) _ hR (by omega) (by omega) hstk.2.2, Option.bind_some, Option.bind_some, Int.toNat_natCast]
      refine ⟨pStr k (nrm k P), ?_, ?_⟩
      · rintro ⟨_, a⟩
        rw [if_pos a.2]
      · intro a
        rw [if_neg (fun z => a ⟨c, g, z⟩)]
    · rw [if_neg g, if_pos rfl]
      exact ⟨P, fun a => absurd a.2.1 g, fun _ => rfl⟩
  · rw [if_neg c]
    exact ⟨P, fun a => absurd a.1 c, fun _ => rfl⟩
end jLeast
