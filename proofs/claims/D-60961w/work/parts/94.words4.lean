/-! words made -/
set_option maxRecDepth 100000
section jWords4
variable {s : jS} {K : Int} {k : Nat}
def skq (g : Nat → Int) (j : Nat) : Nat → Option Nat
  | 0 => none
  | i + 1 => if g i = (j : Int) then some i else skq g j i
theorem lk_src (g : Nat → Int) (v : Int) (b : Nat → Int) (j : Nat) : ∀ n, lk g v b n j = match skq g j n with | none => b j | some i => pbt v i
  | 0 => rfl
  | n + 1 => by
    unfold lk skq
    by_cases c : g n = (j : Int)
    · rw [if_pos c, if_pos c]
    · rw [if_neg c, if_neg c]; exact lk_src g v b j n
theorem lk_run (g : Nat → Int) (v : Int) (b : Nat → Int) (j lo : Nat) : ∀ n, (∀ i, i < n → g i = ((lo + i : Nat) : Int)) → lk g v b n j = if lo ≤ j ∧ j < lo + n then pbt v (j - lo) else b j
  | 0, _ => by unfold lk; rw [if_neg (by omega)]
  | n + 1, h => by
    unfold lk
    rw [h n (by omega), lk_run g v b j lo n (fun i hi => h i (by omega))]
    by_cases c : j = lo + n
    · subst c
      rw [if_pos rfl, if_pos (by omega), show lo + n - lo = n by omega]
    · rw [if_neg (by omega)]
      by_cases d : lo ≤ j ∧ j < lo + n
      · rw [if_pos d, if_pos (by omega)]
      · rw [if_neg d, if_neg (by omega)]
theorem bt_31 (q : Nat) : pbt 31 q = if q < 5 then 1 else 0 := by
  by_cases c : q < 5
  · rw [if_pos c]
    have h : ∀ q : Fin 5, pbt 31 q.val = 1 := by decide
    exact h ⟨q, c⟩
  · rw [if_neg c]; exact bt_big 31 q 5 (by omega) (by decide) (by omega)
theorem bt_7 (q : Nat) : pbt 7 q = if q < 3 then 1 else 0 := by
  by_cases c : q < 3
  · rw [if_pos c]
    have h : ∀ q : Fin 3, pbt 7 q.val = 1 := by decide
    exact h ⟨q, c⟩
  · rw [if_neg c]; exact bt_big 7 q 3 (by omega) (by decide) (by omega)
/-- what may be put into a field -/
def fPv (d : Nat × Int × List Int) (v : Int) : Prop := if d.1 = 4 then 0 ≤ v ∧ v ≤ 31 else if d.1 = 5 then 8 ≤ v ∧ v ≤ 15 else -2147483648 ≤ v ∧ v ≤ 2147483647
theorem f_put {f : Int} {d : Nat × Int × List Int} (h : pFA s f d) (hw : fWf d = true) {w v : Int} (hr : -2147483648 ≤ w ∧ w ≤ 2147483647) (hv : fPv d v) : ∃ r, mp_X3_put s f w v = some r ∧ (-2147483648 ≤ r ∧ r ≤ 2147483647) ∧ ∀ j, j < 32 → pbt r j = lk (fun i => d.2.2.getD i (-1)) (if d.1 = 5 then v - 8 else v) (pbt w) d.2.2.length j := by
  have hh := h
  obtain ⟨f0, f1, hk, h⟩ := h
  by_cases h4 : d.1 = 4
  · obtain ⟨a1, a2, a3, a4, a5, a6⟩ := fWf_4 hw h4
    have hk4 : jK s f = 4 := by rw [hk, h4]; rfl
    have e0 : jf s 4 f 0 = d.2.2.getD 0 (-1) := by
      rcases h with h | h | h
      · exact h.2.1
      · omega
      · omega
    unfold fPv at hv
    rw [if_pos h4] at hv
    refine ⟨I_or (I_and w (I_xor (I_shl 31 (d.2.2.getD 0 (-1))) (-1))) (I_shl v (d.2.2.getD 0 (-1))), ?_, I_or_b _ _, fun j hj => ?_⟩
    · rw [emp_X3_put]; unfold dmp_X3_put
      rw [if_pos ⟨f0, hk4⟩, jct_in ((jTt_pl rfl rfl).mpr (hh.tz (by rw [h4]; rfl) (by decide))), em_X4_put]
      unfold dm_X4_put
      rw [e0]
    · rw [if_neg (show ¬ d.1 = 5 by omega), a1, lk_run _ v _ j (d.2.2.getD 0 (-1)).toNat 5 (fun i hi => by rw [a6 i hi]; omega), bt_or _ _ _ hj, bt_and _ _ _ hj, bt_not _ _ hj, bt_shl _ _ _ a2 (by omega) hj, bt_shl _ _ _ a2 (by omega) hj]
      have b1 := pbt_01 w j
      have b2 := pbt_01 v (j - (d.2.2.getD 0 (-1)).toNat)
      rw [bit_put _ _ _ (by omega) (by split <;> first | omega | (rw [bt_31]; split <;> omega)) (by split <;> omega)]
      by_cases l : j < (d.2.2.getD 0 (-1)).toNat
      · simp only [if_pos l, show ((0 : Int) = 1) = False by simp, if_false]
        rw [if_neg (by omega)]
      · simp only [if_neg l, bt_31]
        by_cases m : j - (d.2.2.getD 0 (-1)).toNat < 5
        · rw [if_pos (by rw [if_pos m]), if_pos (by omega)]
        · rw [if_neg (by rw [if_neg m]; omega), if_neg (show ¬ ((d.2.2.getD 0 (-1)).toNat ≤ j ∧ j < (d.2.2.getD 0 (-1)).toNat + 5) by omega), bt_big v _ 5 hv.1 (by rw [show (2 : Int) ^ 5 = 32 from rfl]; omega) (by omega), if_neg (by omega)]
  by_cases h5 : d.1 = 5
  · obtain ⟨a1, a2, a3, a6⟩ := fWf_5 hw h5
    have hk4 : jK s f = 5 := by rw [hk, h5]; rfl
    have e0 : jf s 5 f 0 = d.2.2.getD 0 (-1) := by
      rcases h with h | h | h
      · omega
      · exact h.2
      · omega
    unfold fPv at hv
    rw [if_neg h4, if_pos h5] at hv
    refine ⟨I_or (I_and w (I_xor (I_shl 7 (d.2.2.getD 0 (-1))) (-1))) (I_shl (v - 8) (d.2.2.getD 0 (-1))), ?_, I_or_b _ _, fun j hj => ?_⟩
    · rw [emp_X3_put]; unfold dmp_X3_put
      rw [if_neg (by omega), if_pos ⟨f0, hk4⟩, jct_in ((jTt_pl rfl rfl).mpr (hh.tz (by rw [h5]; rfl) (by decide))), em_X5_put]
      unfold dm_X5_put
      rw [e0, W32_in (by omega) (by omega)]
    · rw [if_pos h5, a1, lk_run _ (v - 8) _ j (d.2.2.getD 0 (-1)).toNat 3 (fun i hi => by rw [a6 i hi]; omega), bt_or _ _ _ hj, bt_and _ _ _ hj, bt_not _ _ hj, bt_shl _ _ _ a2 (by omega) hj, bt_shl _ _ _ a2 (by omega) hj]
      have b1 := pbt_01 w j
      have b2 := pbt_01 (v - 8) (j - (d.2.2.getD 0 (-1)).toNat)
      rw [bit_put _ _ _ (by omega) (by split <;> first | omega | (rw [bt_7]; split <;> omega)) (by split <;> omega)]
      by_cases l : j < (d.2.2.getD 0 (-1)).toNat
      · simp only [if_pos l, show ((0 : Int) = 1) = False by simp, if_false]
        rw [if_neg (by omega)]
      · simp only [if_neg l, bt_7]
        by_cases m : j - (d.2.2.getD 0 (-1)).toNat < 3
        · rw [if_pos (by rw [if_pos m]), if_pos (by omega)]
        · rw [if_neg (by rw [if_neg m]; omega), if_neg (show ¬ ((d.2.2.getD 0 (-1)).toNat ≤ j ∧ j < (d.2.2.getD 0 (-1)).toNat + 3) by omega), bt_big (v - 8) _ 3 (by omega) (by rw [show (2 : Int) ^ 3 = 8 from rfl]; omega) (by omega), if_neg (by omega)]
  unfold fPv at hv
  rw [if_neg h4, if_neg h5] at hv
  have hS := hh.sp hw h4 h5
  obtain ⟨w1, w2, w3, w4, w5, w6⟩ := fWf_s hw h4 h5
  obtain ⟨r, p1, p2, p3⟩ := s_X6_put hS hr hv
  refine ⟨r, ?_, p2, fun j hj => by rw [if_neg h5]; exact p3 j hj⟩
  rw [emp_X3_put]; unfold dmp_X3_put
  rcases w1 with c | c | c
  · have hk6 : jK s f = 6 := by rw [hk, c]; rfl
    rw [if_neg (by omega), if_neg (by omega), if_pos ⟨f0, hk6⟩, p1]
  · have hk6 : jK s f = 12 := by rw [hk, c]; rfl
    rw [if_neg (by omega), if_neg (by omega), if_neg (by omega), if_pos ⟨f0, hk6⟩, p1]
  · have hk6 : jK s f = 14 := by rw [hk, c]; rfl
    rw [if_neg (by omega), if_neg (by omega), if_neg (by omega), if_neg (by omega), if_pos ⟨f0, hk6⟩, p1]
theorem s_X7_put (h : pKA s K k) (hk : k < 75) {e : Nat} (he : e < 4) {w v : Int} (hw : -2147483648 ≤ w ∧ w ≤ 2147483647) (hv : ¬ (cFd k e).1 = 0 → fPv (cFd k e) v) : ∃ r, m_X7_put s K w e v = some r ∧ (-2147483648 ≤ r ∧ r ≤ 2147483647) ∧ ∀ j, j < 32 → pbt r j = lk (cG k e) (if (cFd k e).1 = 5 then v - 8 else v) (pbt w) (cN k e) j := by
  rw [em_X7_put]; unfold dm_X7_put
  rw [h.fld he]
  simp only [Option.bind_some]
  obtain ⟨f1, f2⟩ := h.2.2.2.2.2.2.2.2.1 e he
  by_cases c : (cFd k e).1 = 0
  · refine ⟨w, by rw [f1 c, if_pos (by omega)], hw, fun j hj => ?_⟩
    rw [tab_zero k hk e he c]; rfl
  · have hf := f2 c
    obtain ⟨r, p1, p2, p3⟩ := f_put hf (wf_of hk he c) hw (hv c)
    exact ⟨r, by rw [if_neg (by have := hf.1; omega), p1, Option.bind_some], p2, p3⟩
def sq (k e j : Nat) : Option Nat := skq (cG k e) j (cN k e)
/-- where bits come from: the component's places and the twin's row tell the same -/
def tabS (k j : Nat) : Bool := match sq k 3 j with
  | some i => decide (j < pBits k) && decide (2 ≤ pRow (32 * k + j)) && decide (pce (pRow (32 * k + j)) = 3) && decide (pRow (32 * k + j) % 100 = i) && decide (pRow (32 * k + j) < 500)
  | none => match sq k 2 j with
    | some i => decide (j < pBits k) && decide (2 ≤ pRow (32 * k + j)) && decide (pce (pRow (32 * k + j)) = 2) && decide (pRow (32 * k + j) % 100 = i) && (decide (pRow (32 * k + j) < 500) == !decide ((cFd k 2).1 = 5))
    | none => match sq k 1 j with
      | some i => decide (j < pBits k) && decide (2 ≤ pRow (32 * k + j)) && decide (pce (pRow (32 * k + j)) = 1) && decide (pRow (32 * k + j) % 100 = i) && (decide (pRow (32 * k + j) < 500) == !decide ((cFd k 1).1 = 5))
      | none => match sq k 0 j with
        | some i => decide (j < pBits k) && decide (2 ≤ pRow (32 * k + j)) && decide (pce (pRow (32 * k + j)) = 0) && decide (pRow (32 * k + j) % 100 = i) && (decide (pRow (32 * k + j) < 500) == !decide ((cFd k 0).1 = 5))
        | none => !(decide (j < pBits k)) || decide (pRow (32 * k + j) < 2)
theorem tab_S : ((List.range 75).all fun k => (List.range 32).all fun j => tabS k j) = true := by decide +kernel
theorem pb_lo (p : jP4) (c : Nat) (h2 : 2 ≤ c) : pb p c = if c < 500 then pbt (p4g p (pce c)) (c % 100) else pbt (p4g p (pce c) - 8) (c % 100) := by
  unfold pb
  rw [if_neg (by omega)]
theorem pPut_hi (p : jP4) (j : Nat) (hj : pBits k ≤ j) (hj' : j < 32) : pbt (pPut k p) j = 0 := by
  have hb : pBits k = 16 := by
    unfold pBits at hj ⊢
    by_cases c : k < 48
    · rw [if_pos c] at hj; omega
    · rw [if_neg c]
  unfold pPut
  rw [bt_W32 _ _ hj', hb]
  have h := pvv_lo (fun i => pb p (pRow (32 * k + i))) (fun i => pb_01 p _) 16
  exact bt_big _ j 16 h.1 h.2 (by omega)
theorem lks_put (hk : k < 75) (p : jP4) (j : Nat) (hj : j < 32) : lks k p 4 j = pbt (pPut k p) j := by
  have ht := tab_S
  simp only [List.all_eq_true, List.mem_range] at ht
  have ht := ht k hk j hj
  have c3 : (cFd k 3).1 ≠ 5 := by have := (tab_cls k hk).2.1; omega
  have u3 : lks k p 4 j = match sq k 3 j with | none => lks k p 3 j | some i => pbt (p4g p 3) i := by
    have := lk_src (cG k 3) (if (cFd k 3).1 = 5 then p4g p 3 - 8 else p4g p 3) (lks k p 3) j (cN k 3)
    rw [if_neg c3] at this
    show lk (cG k 3) (if (cFd k 3).1 = 5 then p4g p 3 - 8 else p4g p 3) (lks k p 3) (cN k 3) j = _
    rw [if_neg c3]; exact this
  have u : ∀ e : Nat, lks k p (e + 1) j = match sq k e j with | none => lks k p e j | some i => pbt (if (cFd k e).1 = 5 then p4g p e - 8 else p4g p e) i := fun e =>
    lk_src (cG k e) (if (cFd k e).1 = 5 then p4g p e - 8 else p4g p e) (lks k p e) j (cN k e)
  have u2 := u 2
  have u1 := u 1
  have u0 := u 0
  obtain ⟨m1, m2⟩ := tab_mask k hk j hj
  have ub : lks k p 0 j = pbt (cKd k).2.1 j := rfl
  unfold tabS at ht
  rw [u3]
  cases q3 : sq k 3 j with
  | some i =>
    rw [q3] at ht
    simp only [Bool.and_eq_true, decide_eq_true_eq] at ht
    obtain ⟨⟨⟨⟨t1, t2⟩, t3⟩, t4⟩, t5⟩ := ht
    rw [pPut_bit _ _ _ t1, pb_lo _ _ t2, if_pos t5, t3, t4]
  | none =>
    rw [q3] at ht
    simp only at ht ⊢
    rw [u2]
    cases q2 : sq k 2 j with
    | some i =>
      rw [q2] at ht
      simp only [Bool.and_eq_true, decide_eq_true_eq, beq_iff_eq] at ht
      obtain ⟨⟨⟨⟨t1, t2⟩, t3⟩, t4⟩, t5⟩ := ht
      rw [pPut_bit _ _ _ t1, pb_lo _ _ t2, t3, t4]
      by_cases c : (cFd k 2).1 = 5
      · rw [decide_eq_true c] at t5
        rw [if_neg (of_decide_eq_false t5)]
        simp only [if_pos c]
      · rw [decide_eq_false c] at t5
        rw [if_pos (of_decide_eq_true t5)]
        simp only [if_neg c]
    | none =>
      rw [q2] at ht
      simp only at ht ⊢
      rw [u1]
      cases q1 : sq k 1 j with
      | some i =>
        rw [q1] at ht
        simp only [Bool.and_eq_true, decide_eq_true_eq, beq_iff_eq] at ht
        obtain ⟨⟨⟨⟨t1, t2⟩, t3⟩, t4⟩, t5⟩ := ht
        rw [pPut_bit _ _ _ t1, pb_lo _ _ t2, t3, t4]
        by_cases c : (cFd k 1).1 = 5
        · rw [decide_eq_true c] at t5
          rw [if_neg (of_decide_eq_false t5)]
          simp only [if_pos c]
        · rw [decide_eq_false c] at t5
          rw [if_pos (of_decide_eq_true t5)]
          simp only [if_neg c]
      | none =>
        rw [q1] at ht
        simp only at ht ⊢
        rw [u0]
        cases q0 : sq k 0 j with
        | some i =>
          rw [q0] at ht
          simp only [Bool.and_eq_true, decide_eq_true_eq, beq_iff_eq] at ht
          obtain ⟨⟨⟨⟨t1, t2⟩, t3⟩, t4⟩, t5⟩ := ht
          rw [pPut_bit _ _ _ t1, pb_lo _ _ t2, t3, t4]
          by_cases c : (cFd k 0).1 = 5
          · rw [decide_eq_true c] at t5
            rw [if_neg (of_decide_eq_false t5)]
            simp only [if_pos c]
          · rw [decide_eq_false c] at t5
            rw [if_pos (of_decide_eq_true t5)]
            simp only [if_neg c]
        | none =>
          rw [q0] at ht
          simp only [Bool.or_eq_true, Bool.not_eq_true', decide_eq_false_iff_not, decide_eq_true_eq] at ht
          show lks k p 0 j = _
          rw [ub, m2]
          by_cases c : j < pBits k
          · have hr : pRow (32 * k + j) < 2 := by
              rcases ht with z | z
              · exact absurd c z
              · exact z
            rw [if_pos ⟨c, hr⟩, pPut_bit _ _ _ c]
            unfold pb
            rw [if_pos hr]
          · rw [if_neg (fun z => c z.1), pPut_hi _ _ (by omega) hj]
/-- a word made of good parts -/
theorem s_X2_made {W : Int} (h : pKA s K k) (hk : k < 75) (d a b i : Int) (hv : ∀ e : Nat, e < 4 → ¬ (cFd k e).1 = 0 → fPv (cFd k e) (p4g (d, a, b, i) e)) : m_X2_made s W K d a b i = some (pPut k (d, a, b, i)) := by
  rw [em_X2_made]; unfold dm_X2_made
  have ht := h.t
  have h0 := h.1
  rw [jrd_in h0.1 (show jK s K = 11 from h0.2.2.1), Option.bind_some, h.2.2.1]
  obtain ⟨r0, p0, b0, l0⟩ := s_X7_put h hk (e := 0) (by omega) (w := (cKd k).2.1) (v := d) (tab_rng k hk) (hv 0 (by omega))
  obtain ⟨r1, p1, b1, l1⟩ := s_X7_put h hk (e := 1) (by omega) (w := r0) (v := a) b0 (hv 1 (by omega))
  obtain ⟨r2, p2, b2, l2⟩ := s_X7_put h hk (e := 2) (by omega) (w := r1) (v := b) b1 (hv 2 (by omega))
  obtain ⟨r3, p3, b3, l3⟩ := s_X7_put h hk (e := 3) (by omega) (w := r2) (v := i) b2 (hv 3 (by omega))
  rw [jct_in ht, show m_X7_put s K (cKd k).2.1 0 d = some r0 from p0, Option.bind_some, jct_in ht, show m_X7_put s K r0 1 a = some r1 from p1, Option.bind_some, jct_in ht, show m_X7_put s K r1 2 b = some r2 from p2, Option.bind_some, jct_in ht, show m_X7_put s K r2 3 i = some r3 from p3, Option.bind_some]
  congr 1
  have lkc : ∀ (g : Nat → Int) (v : Int) (x y : Nat → Int) (j : Nat), x j = y j → ∀ n, lk g v x n j = lk g v y n j := by
    intro g v x y j hxy n
    rw [lk_src, lk_src]
    split
    · exact hxy
    · rfl
  refine word_ext b3 (pPut_in k _) fun j hj => ?_
  rw [← lks_put hk _ j hj, l3 j hj]
  have e0 : pbt r0 j = lks k (d, a, b, i) 1 j := l0 j hj
  have e1 : pbt r1 j = lks k (d, a, b, i) 2 j := by rw [l1 j hj]; exact lkc _ _ _ _ _ e0 _
  have e2 : pbt r2 j = lks k (d, a, b, i) 3 j := by rw [l2 j hj]; exact lkc _ _ _ _ _ e1 _
  exact lkc _ _ _ _ _ e2 _
end jWords4
