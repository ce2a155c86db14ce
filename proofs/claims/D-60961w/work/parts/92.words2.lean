/-! the component's kinds of words at work: printed by gen_words2.py -/
set_option maxRecDepth 100000
section jWords2
/-- what a field takes of a word, and what may be in it -/
noncomputable def fTake (d : Nat × Int × List Int) (w : Int) : Int := if d.1 = 5 then 8 + tks w (fun i => d.2.2.getD i (-1)) d.2.2.length else if d.1 = 4 ∨ d.2.1 = 0 then tks w (fun i => d.2.2.getD i (-1)) d.2.2.length else if d.1 = 14 then I_and (sxt d.2.2.length (tks w (fun i => d.2.2.getD i (-1)) d.2.2.length)) 1048575 else sxt d.2.2.length (tks w (fun i => d.2.2.getD i (-1)) d.2.2.length)
def fMay (d : Nat × Int × List Int) (v : Int) : Prop := if d.1 = 4 then 0 ≤ v ∧ v < 32 ∧ pbt d.2.1 v.toNat = 0 else if d.1 = 5 then 8 ≤ v ∧ v < 16 else if d.1 = 6 then mayS d.2.2.length (fun i => d.2.2.getD i (-1)) d.2.1 v else if d.1 = 12 then ¬ v = 0 ∧ mayS d.2.2.length (fun i => d.2.2.getD i (-1)) d.2.1 v else (0 < v ∧ v < 32) ∨ (1048544 ≤ v ∧ v < 1048576)
/-- a field's object -/
def pFA (s : jS) (f : Int) (d : Nat × Int × List Int) : Prop := 0 ≤ f ∧ f < jn s ∧ jK s f = d.1 ∧
  ((d.1 = 4 ∧ jf s 4 f 0 = d.2.2.getD 0 (-1) ∧ jf s 4 f 1 = d.2.1) ∨ (d.1 = 5 ∧ jf s 5 f 0 = d.2.2.getD 0 (-1)) ∨
   ((d.1 = 6 ∨ d.1 = 12 ∨ d.1 = 14) ∧ jf s d.1 f 1 = d.2.1 ∧ 0 ≤ jf s d.1 f 0 ∧ jK s (jf s d.1 f 0) = 1000 ∧ jN s (jf s d.1 f 0) = d.2.2.length ∧ ∀ i : Nat, i < d.2.2.length → jf s 1000 (jf s d.1 f 0) i = d.2.2.getD i (-1)))
/-- such a field is well -/
def fWf (d : Nat × Int × List Int) : Bool := (decide (d.1 = 4) && decide (d.2.2.length = 5) && decide (0 ≤ d.2.2.getD 0 (-1)) && decide (d.2.2.getD 0 (-1) ≤ 27) && decide (0 ≤ d.2.1) && decide (d.2.1 ≤ 5) && (List.range 5).all (fun i => decide (d.2.2.getD i (-1) = d.2.2.getD 0 (-1) + i))) ||
  (decide (d.1 = 5) && decide (d.2.2.length = 3) && decide (0 ≤ d.2.2.getD 0 (-1)) && decide (d.2.2.getD 0 (-1) ≤ 29) && (List.range 3).all (fun i => decide (d.2.2.getD i (-1) = d.2.2.getD 0 (-1) + i))) ||
  ((decide (d.1 = 6) || decide (d.1 = 12) || decide (d.1 = 14)) && decide (1 ≤ d.2.2.length) && decide (d.2.2.length ≤ 21) && (decide (d.2.1 = 0) || decide (d.2.1 = 1)) && (List.range d.2.2.length).all (fun i => decide (-1 ≤ d.2.2.getD i (-1)) && decide (d.2.2.getD i (-1) ≤ 31)) && (!decide (d.1 = 14) || decide (d.2.1 = 1)))
theorem tab_wf : ∀ k, k < 75 → ∀ e, e < 4 → (cFd k e).1 = 0 ∨ fWf (cFd k e) = true := by decide +kernel
theorem fWf_4 {d : Nat × Int × List Int} (h : fWf d = true) (h4 : d.1 = 4) : d.2.2.length = 5 ∧ 0 ≤ d.2.2.getD 0 (-1) ∧ d.2.2.getD 0 (-1) ≤ 27 ∧ 0 ≤ d.2.1 ∧ d.2.1 ≤ 5 ∧ ∀ i : Nat, i < 5 → d.2.2.getD i (-1) = d.2.2.getD 0 (-1) + i := by
  unfold fWf at h
  simp only [h4, Bool.or_eq_true, Bool.and_eq_true, decide_eq_true_eq, List.all_eq_true, List.mem_range] at h
  rcases h with (h | h) | h
  · exact ⟨h.1.1.1.1.1.2, h.1.1.1.1.2, h.1.1.1.2, h.1.1.2, h.1.2, h.2⟩
  · exact absurd h.1.1.1.1 (by decide)
  · exact absurd h.1.1.1.1.1 (by decide)
theorem fWf_5 {d : Nat × Int × List Int} (h : fWf d = true) (h5 : d.1 = 5) : d.2.2.length = 3 ∧ 0 ≤ d.2.2.getD 0 (-1) ∧ d.2.2.getD 0 (-1) ≤ 29 ∧ ∀ i : Nat, i < 3 → d.2.2.getD i (-1) = d.2.2.getD 0 (-1) + i := by
  unfold fWf at h
  simp only [h5, Bool.or_eq_true, Bool.and_eq_true, decide_eq_true_eq, List.all_eq_true, List.mem_range] at h
  rcases h with (h | h) | h
  · exact absurd h.1.1.1.1.1.1 (by decide)
  · exact ⟨h.1.1.1.2, h.1.1.2, h.1.2, h.2⟩
  · exact absurd h.1.1.1.1.1 (by decide)
theorem fWf_s {d : Nat × Int × List Int} (h : fWf d = true) (h4 : ¬ d.1 = 4) (h5 : ¬ d.1 = 5) : (d.1 = 6 ∨ d.1 = 12 ∨ d.1 = 14) ∧ 1 ≤ d.2.2.length ∧ d.2.2.length ≤ 21 ∧ (d.2.1 = 0 ∨ d.2.1 = 1) ∧ (∀ i : Nat, i < d.2.2.length → -1 ≤ d.2.2.getD i (-1) ∧ d.2.2.getD i (-1) ≤ 31) ∧ (d.1 = 14 → d.2.1 = 1) := by
  unfold fWf at h
  simp only [h4, h5, decide_false, Bool.false_and, Bool.false_or, Bool.or_eq_true, Bool.and_eq_true, decide_eq_true_eq, List.all_eq_true, List.mem_range, Bool.not_eq_true', decide_eq_false_iff_not] at h
  obtain ⟨⟨⟨⟨⟨a1, a2⟩, a3⟩, a4⟩, a5⟩, a6⟩ := h
  exact ⟨by omega, a2, a3, a4, a5, fun q => by rcases a6 with a6 | a6; exact absurd q a6; exact a6⟩
theorem tks_run (w : Int) (lo : Nat) (g : Nat → Int) : ∀ n : Nat, (∀ i : Nat, i < n → g i = ((lo + i : Nat) : Int)) → tks w g n = pSl lo n w
  | 0, _ => by unfold tks; rw [pSl_0]
  | n + 1, h => by
    unfold tks
    rw [tks_run w lo g n (fun i hi => h i (by omega)), pSl_succ, h n (by omega), if_neg (by omega), Int.toNat_natCast]
variable {s : jS} {f : Int} {d : Nat × Int × List Int}
/-- an immediate's field of any of three classes -/
theorem pFA.sp (h : pFA s f d) (hw : fWf d = true) (h4 : ¬ d.1 = 4) (h5 : ¬ d.1 = 5) : pSF s f d.2.2.length (fun i => d.2.2.getD i (-1)) d.2.1 := by
  obtain ⟨f0, f1, hk, h⟩ := h
  obtain ⟨w1, w2, w3, w4, w5, w6⟩ := fWf_s hw h4 h5
  rcases h with h | h | ⟨c, h1, h2, h3, h6, h7⟩
  · exact absurd h.1 h4
  · exact absurd h.1 h5
  refine ⟨w4, w2, w3, w5, jf s d.1 f 0, ?_, ?_, h2, h3, h6, h7⟩
  · rcases c with c | c | c <;> rw [c] at hk ⊢ <;> simp [jrp, f0, hk]
  · rcases c with c | c | c <;> rw [c] at hk h1 <;> simp [jrp, f0, hk] <;> exact h1
theorem pFA.tz (h : pFA s f d) {t : Nat} (ht : jTk t = d.1) (ht' : t < 1048576) : jTz s t f := ⟨h.1, h.2.1, by rw [ht]; exact h.2.2.1, fun q => absurd q (by omega)⟩
theorem f_take (h : pFA s f d) (hw : fWf d = true) {w : Int} (hr : -2147483648 ≤ w ∧ w ≤ 2147483647) : mp_X3_take s f w = some (fTake d w) := by
  have hh := h
  obtain ⟨f0, f1, hk, h⟩ := h
  rw [emp_X3_take]; unfold dmp_X3_take fTake
  by_cases h4 : d.1 = 4
  · obtain ⟨a1, a2, a3, a4, a5, a6⟩ := fWf_4 hw h4
    have hk4 : jK s f = 4 := by rw [hk, h4]; rfl
    rw [if_pos ⟨f0, hk4⟩, jct_in ((jTt_pl rfl rfl).mpr (hh.tz (by rw [h4]; rfl) (by decide))), em_X4_take]
    unfold dm_X4_take
    rw [if_neg (by omega), if_pos (.inl h4)]
    have e0 : jf s 4 f 0 = d.2.2.getD 0 (-1) := by
      rcases h with h | h | h
      · exact h.2.1
      · omega
      · omega
    rw [e0, I_and_31, i_shr_p hr a2 (by omega), a1, tks_run w (d.2.2.getD 0 (-1)).toNat _ 5 (fun i hi => by rw [a6 i hi]; omega)]
    rfl
  by_cases h5 : d.1 = 5
  · obtain ⟨a1, a2, a3, a6⟩ := fWf_5 hw h5
    have hk4 : jK s f = 5 := by rw [hk, h5]; rfl
    rw [if_neg (by omega), if_pos ⟨f0, hk4⟩, jct_in ((jTt_pl rfl rfl).mpr (hh.tz (by rw [h5]; rfl) (by decide))), em_X5_take]
    unfold dm_X5_take
    rw [if_pos h5]
    have e0 : jf s 5 f 0 = d.2.2.getD 0 (-1) := by
      rcases h with h | h | h
      · omega
      · exact h.2
      · omega
    rw [e0, I_and_7, i_shr_p hr a2 (by omega), a1, tks_run w (d.2.2.getD 0 (-1)).toNat _ 3 (fun i hi => by rw [a6 i hi]; omega)]
    have := pSl_lo (d.2.2.getD 0 (-1)).toNat 3 w
    rw [show (2 : Int) ^ 3 = 8 from rfl] at this
    show some (W32 (8 + pSl (d.2.2.getD 0 (-1)).toNat 3 w)) = _
    rw [W32_in (by omega) (by omega)]
  have hS := hh.sp hw h4 h5
  obtain ⟨w1, w2, w3, w4, w5, w6⟩ := fWf_s hw h4 h5
  have hT := s_X6_take hS hr
  rw [if_neg h5]
  rcases w1 with c | c | c
  · have hk6 : jK s f = 6 := by rw [hk, c]; rfl
    rw [if_neg (by omega), if_neg (by omega), if_pos ⟨f0, hk6⟩, hT]
    by_cases z : d.2.1 = 0
    · rw [if_pos z, if_pos (.inr z)]
    · rw [if_neg z, if_neg (by omega), if_neg (by omega)]
  · have hk6 : jK s f = 12 := by rw [hk, c]; rfl
    rw [if_neg (by omega), if_neg (by omega), if_neg (by omega), if_pos ⟨f0, hk6⟩, hT]
    by_cases z : d.2.1 = 0
    · rw [if_pos z, if_pos (.inr z)]
    · rw [if_neg z, if_neg (by omega), if_neg (by omega)]
  · have hk6 : jK s f = 14 := by rw [hk, c]; rfl
    have z := w6 c
    rw [if_neg (by omega), if_neg (by omega), if_neg (by omega), if_neg (by omega), if_pos ⟨f0, hk6⟩, jct_in ((jTt_pl rfl rfl).mpr (hh.tz (by rw [c]; rfl) (by decide))), em_X10_take]
    unfold dm_X10_take
    rw [emq_X6_take]; unfold dmq_X6_take
    rw [if_pos ⟨f0, hk6⟩, hT, if_neg (by omega), Option.bind_some, if_neg (by omega), if_pos c]
theorem f_may (h : pFA s f d) (hw : fWf d = true) (v : Int) : (fMay d v → mp_X3_may s f v = some 1) ∧ (¬ fMay d v → mp_X3_may s f v = some 0) := by
  have hh := h
  obtain ⟨f0, f1, hk, h⟩ := h
  by_cases h4 : d.1 = 4
  · obtain ⟨a1, a2, a3, a4, a5, a6⟩ := fWf_4 hw h4
    have hk4 : jK s f = 4 := by rw [hk, h4]; rfl
    have hM : fMay d v ↔ (0 ≤ v ∧ v < 32 ∧ pbt d.2.1 v.toNat = 0) := by unfold fMay; rw [if_pos h4]
    have e0 : jf s 4 f 1 = d.2.1 := by
      rcases h with h | h | h
      · exact h.2.2
      · omega
      · omega
    have hX : mp_X3_may s f v = dm_X4_may s f v := by
      rw [emp_X3_may]; unfold dmp_X3_may
      rw [if_pos ⟨f0, hk4⟩, jct_in ((jTt_pl rfl rfl).mpr (hh.tz (by rw [h4]; rfl) (by decide))), em_X4_may]
    rw [hM, hX]
    unfold dm_X4_may
    rw [e0]
    simp only [L_cmp_lt, Wz_0, Wz_1]
    by_cases c1 : v < 0
    · rw [if_pos c1]; exact ⟨fun q => by omega, fun _ => rfl⟩
    by_cases c2 : v < 32
    · rw [if_neg c1, if_pos c2, l2i_in (by omega) (by omega), pbt_shr (by omega) (by omega) (by omega)]
      by_cases c3 : pbt d.2.1 v.toNat = 0
      · rw [if_pos c3]; exact ⟨fun _ => rfl, fun q => absurd ⟨by omega, c2, c3⟩ q⟩
      · rw [if_neg c3]; exact ⟨fun q => absurd q.2.2 c3, fun _ => rfl⟩
    · rw [if_neg c1, if_neg c2]; exact ⟨fun q => by omega, fun _ => rfl⟩
  by_cases h5 : d.1 = 5
  · have hk4 : jK s f = 5 := by rw [hk, h5]; rfl
    have hM : fMay d v ↔ (8 ≤ v ∧ v < 16) := by unfold fMay; rw [if_neg h4, if_pos h5]
    have hX : mp_X3_may s f v = dm_X5_may s f v := by
      rw [emp_X3_may]; unfold dmp_X3_may
      rw [if_neg (by omega), if_pos ⟨f0, hk4⟩, jct_in ((jTt_pl rfl rfl).mpr (hh.tz (by rw [h5]; rfl) (by decide))), em_X5_may]
    rw [hM, hX]
    unfold dm_X5_may
    simp only [L_cmp_lt, Wz_0, Wz_1]
    by_cases c1 : v < 8
    · rw [if_pos c1]; exact ⟨fun q => by omega, fun _ => rfl⟩
    by_cases c2 : v < 16
    · rw [if_neg c1, if_pos c2]; exact ⟨fun _ => rfl, fun q => by omega⟩
    · rw [if_neg c1, if_neg c2]; exact ⟨fun q => by omega, fun _ => rfl⟩
  have hS := hh.sp hw h4 h5
  obtain ⟨w1, w2, w3, w4, w5, w6⟩ := fWf_s hw h4 h5
  rcases w1 with c | c | c
  · have hk6 : jK s f = 6 := by rw [hk, c]; rfl
    have hid : mp_X6_idle s f = m_X6_idle s f := by rw [emp_X6_idle]; unfold dmp_X6_idle; rw [if_pos ⟨f0, hk6⟩]
    have hM : fMay d v ↔ mayS d.2.2.length (fun i => d.2.2.getD i (-1)) d.2.1 v := by unfold fMay; rw [if_neg h4, if_neg h5, if_pos c]
    have hX : mp_X3_may s f v = m_X6_may s f v := by
      rw [emp_X3_may]; unfold dmp_X3_may
      rw [if_neg (by omega), if_neg (by omega), if_pos ⟨f0, hk6⟩]
    rw [hM, hX]
    exact s_X6_may hS hid
  · have hk6 : jK s f = 12 := by rw [hk, c]; rfl
    have hid : mp_X6_idle s f = m_X6_idle s f := by rw [emp_X6_idle]; unfold dmp_X6_idle; rw [if_neg (by omega), if_pos ⟨f0, hk6⟩]
    have hM : fMay d v ↔ (¬ v = 0 ∧ mayS d.2.2.length (fun i => d.2.2.getD i (-1)) d.2.1 v) := by unfold fMay; rw [if_neg h4, if_neg h5, if_neg (by omega), if_pos c]
    have hX : mp_X3_may s f v = dm_X8_may s f v := by
      rw [emp_X3_may]; unfold dmp_X3_may
      rw [if_neg (by omega), if_neg (by omega), if_neg (by omega), if_pos ⟨f0, hk6⟩, jct_in ((jTt_pl rfl rfl).mpr (hh.tz (by rw [c]; rfl) (by decide))), em_X8_may]
    rw [hM, hX]
    unfold dm_X8_may
    have hq : mq_X6_may s f v = m_X6_may s f v := by rw [emq_X6_may]; unfold dmq_X6_may; rw [if_pos ⟨f0, hk6⟩]
    obtain ⟨m1, m2⟩ := s_X6_may hS hid (v := v)
    rw [hq]
    simp only [L_cmp_0, Wz_0, Wz_1]
    by_cases c0 : v = 0
    · rw [if_pos c0]; exact ⟨fun q => absurd c0 q.1, fun _ => rfl⟩
    · rw [if_neg c0]
      by_cases c1 : mayS d.2.2.length (fun i => d.2.2.getD i (-1)) d.2.1 v
      · rw [m1 c1, Option.bind_some, if_neg (by omega)]; exact ⟨fun _ => rfl, fun q => absurd ⟨c0, c1⟩ q⟩
      · rw [m2 c1, Option.bind_some, if_pos rfl]; exact ⟨fun q => absurd q.2 c1, fun _ => rfl⟩
  · have hk6 : jK s f = 14 := by rw [hk, c]; rfl
    have hM : fMay d v ↔ ((0 < v ∧ v < 32) ∨ (1048544 ≤ v ∧ v < 1048576)) := by unfold fMay; rw [if_neg h4, if_neg h5, if_neg (by omega), if_neg (by omega)]
    have hX : mp_X3_may s f v = dm_X10_may s f v := by
      rw [emp_X3_may]; unfold dmp_X3_may
      rw [if_neg (by omega), if_neg (by omega), if_neg (by omega), if_neg (by omega), if_pos ⟨f0, hk6⟩, jct_in ((jTt_pl rfl rfl).mpr (hh.tz (by rw [c]; rfl) (by decide))), em_X10_may]
    rw [hM, hX]
    unfold dm_X10_may
    simp only [eu_X10_may_14, du_X10_may_14, L_cmp_lt, L_cmp_gt, Wz_0, Wz_1]
    by_cases c1 : 0 < v
    · rw [if_pos c1]
      by_cases c2 : v < 32
      · rw [if_pos c2]; exact ⟨fun _ => rfl, fun q => by omega⟩
      · rw [if_neg c2]
        by_cases c3 : v < 1048544
        · rw [if_pos c3]; exact ⟨fun q => by omega, fun _ => rfl⟩
        · rw [if_neg c3]
          by_cases c4 : v < 1048576
          · rw [if_pos c4]; exact ⟨fun _ => rfl, fun q => by omega⟩
          · rw [if_neg c4]; exact ⟨fun q => by omega, fun _ => rfl⟩
    · rw [if_neg c1, if_pos (show v < 1048544 by omega)]; exact ⟨fun q => by omega, fun _ => rfl⟩
/-- tables of what may be there -/
theorem tab_reg' : ((List.range 75).all fun k => (List.range 3).all fun e => (List.range 32).all fun v => !decide ((cFd k e).1 = 4) || (decide (pbt (cFd k e).2.1 v = 0) == (decide (k < 48) || decide (k = 74) || (!decide (v = 0) && !(decide (k = 56) && decide (v = 2)))))) = true := by decide +kernel
theorem tab_reg (k : Nat) (hk : k < 75) (e : Nat) (he : e < 3) (v : Nat) (hv : v < 32) (h : (cFd k e).1 = 4) : pbt (cFd k e).2.1 v = 0 ↔ (k < 48 ∨ k = 74 ∨ ¬ v = 0 ∧ ¬ (k = 56 ∧ v = 2)) := by
  have t := tab_reg'
  simp only [List.all_eq_true, List.mem_range] at t
  have t := t k hk e he v hv
  simp only [h, decide_true, Bool.not_true, Bool.false_or, beq_iff_eq, decide_eq_decide] at t
  by_cases c : pbt (cFd k e).2.1 v = 0
  · rw [decide_eq_true c] at t
    have t := t.symm
    simp only [Bool.or_eq_true, Bool.and_eq_true, decide_eq_true_eq, Bool.not_eq_true', decide_eq_false_iff_not, Bool.and_eq_false_iff] at t
    exact ⟨fun _ => by omega, fun _ => c⟩
  · rw [decide_eq_false c] at t
    have t := t.symm
    simp only [Bool.or_eq_false_iff, decide_eq_false_iff_not, Bool.and_eq_false_iff, Bool.not_eq_false', decide_eq_true_eq, Bool.and_eq_true] at t
    exact ⟨fun q => absurd q c, fun q => by omega⟩
theorem tab_has : ∀ k, k < 75 → ∀ e, e < 4 → pHas k e = !decide ((cFd k e).1 = 0) := by decide +kernel
theorem tab_sho : ∀ k, k < 75 → ∀ e, e < 3 → pSho k e = decide ((cFd k e).1 = 5) := by decide +kernel
theorem tab_cls : ∀ k, k < 75 → (∀ e, e < 3 → (cFd k e).1 = 0 ∨ (cFd k e).1 = 4 ∨ (cFd k e).1 = 5) ∧ ((cFd k 3).1 = 0 ∨ (cFd k 3).1 = 6 ∨ (cFd k 3).1 = 12 ∨ (cFd k 3).1 = 14) ∧ ((cFd k 3).1 = 14 ↔ k = 56) ∧ ((cFd k 3).1 ≠ 0 → ((cFd k 3).2.1 = 0 → pSgn k < 0) ∧ ((cFd k 3).2.1 = 1 → pSgn k = (cN k 3 : Int) - 1)) := by decide +kernel
theorem tab_zero : ∀ k, k < 75 → ∀ e, e < 4 → (cFd k e).1 = 0 → cN k e = 0 := by decide +kernel
theorem L_and_mm (x : Int) (n : Nat) (h : n ≤ 63) : L_and x (2 ^ n - 1) = x % 2 ^ n := by rw [L_and_eq]; exact l_and_mask x n h
theorem L_and_0' (x : Int) : L_and x 0 = 0 := by have := L_and_mm x 0 (by omega); rw [show (2 : Int) ^ 0 - 1 = 0 from rfl] at this; rw [this]; exact Int.emod_one x
theorem L_and_3' (x : Int) : L_and x 3 = x % 4 := L_and_mm x 2 (by omega)
theorem L_and_15' (x : Int) : L_and x 15 = x % 16 := L_and_mm x 4 (by omega)

theorem fimm_0 (v : Int) : fMay (cFd 0 3) v ↔ pImm 0 v = true := by
  rw [pImm_0]
  have e : cFd 0 3 = (6, 0, [12, 13, 14, 15, 16, 17, 18, 19, 20, 21, 22, 23, 24, 25, 26, 27, 28, 29, 30, 31]) := rfl
  have ei : idl (fun i => ([12, 13, 14, 15, 16, 17, 18, 19, 20, 21, 22, 23, 24, 25, 26, 27, 28, 29, 30, 31] : List Int).getD i (-1)) 20 = 0 := by decide +kernel
  rw [e]
  unfold fMay mayS
  rw [if_neg (by decide), if_neg (by decide), if_pos rfl]
  show (v < 2 ^ 20 ∧ 0 ≤ v ∧ L_and v (idl (fun i => ([12, 13, 14, 15, 16, 17, 18, 19, 20, 21, 22, 23, 24, 25, 26, 27, 28, 29, 30, 31] : List Int).getD i (-1)) 20) = 0) ↔ _
  rw [ei, L_and_0', show (2 : Int) ^ 20 = 1048576 from rfl]
  omega
theorem fimm_1 (v : Int) : fMay (cFd 1 3) v ↔ pImm 1 v = true := by
  rw [pImm_1]
  have e : cFd 1 3 = (6, 0, [12, 13, 14, 15, 16, 17, 18, 19, 20, 21, 22, 23, 24, 25, 26, 27, 28, 29, 30, 31]) := rfl
  have ei : idl (fun i => ([12, 13, 14, 15, 16, 17, 18, 19, 20, 21, 22, 23, 24, 25, 26, 27, 28, 29, 30, 31] : List Int).getD i (-1)) 20 = 0 := by decide +kernel
  rw [e]
  unfold fMay mayS
  rw [if_neg (by decide), if_neg (by decide), if_pos rfl]
  show (v < 2 ^ 20 ∧ 0 ≤ v ∧ L_and v (idl (fun i => ([12, 13, 14, 15, 16, 17, 18, 19, 20, 21, 22, 23, 24, 25, 26, 27, 28, 29, 30, 31] : List Int).getD i (-1)) 20) = 0) ↔ _
  rw [ei, L_and_0', show (2 : Int) ^ 20 = 1048576 from rfl]
  omega
theorem fimm_2 (v : Int) : fMay (cFd 2 3) v ↔ pImm 2 v = true := by
  rw [pImm_2]
  have e : cFd 2 3 = (6, 1, [-1, 21, 22, 23, 24, 25, 26, 27, 28, 29, 30, 20, 12, 13, 14, 15, 16, 17, 18, 19, 31]) := rfl
  have ei : idl (fun i => ([-1, 21, 22, 23, 24, 25, 26, 27, 28, 29, 30, 20, 12, 13, 14, 15, 16, 17, 18, 19, 31] : List Int).getD i (-1)) 21 = 1 := by decide +kernel
  rw [e]
  unfold fMay mayS
  rw [if_neg (by decide), if_neg (by decide), if_pos rfl]
  show (v < 2 ^ 20 ∧ -(2 ^ 20) ≤ v ∧ L_and v (idl (fun i => ([-1, 21, 22, 23, 24, 25, 26, 27, 28, 29, 30, 20, 12, 13, 14, 15, 16, 17, 18, 19, 31] : List Int).getD i (-1)) 21) = 0) ↔ _
  rw [ei, L_and_1, show (2 : Int) ^ 20 = 1048576 from rfl]
  omega
theorem fimm_3 (v : Int) : fMay (cFd 3 3) v ↔ pImm 3 v = true := by
  rw [pImm_3]
  have e : cFd 3 3 = (6, 1, [20, 21, 22, 23, 24, 25, 26, 27, 28, 29, 30, 31]) := rfl
  have ei : idl (fun i => ([20, 21, 22, 23, 24, 25, 26, 27, 28, 29, 30, 31] : List Int).getD i (-1)) 12 = 0 := by decide +kernel
  rw [e]
  unfold fMay mayS
  rw [if_neg (by decide), if_neg (by decide), if_pos rfl]
  show (v < 2 ^ 11 ∧ -(2 ^ 11) ≤ v ∧ L_and v (idl (fun i => ([20, 21, 22, 23, 24, 25, 26, 27, 28, 29, 30, 31] : List Int).getD i (-1)) 12) = 0) ↔ _
  rw [ei, L_and_0', show (2 : Int) ^ 11 = 2048 from rfl]
  omega
theorem fimm_4 (v : Int) : fMay (cFd 4 3) v ↔ pImm 4 v = true := by
  rw [pImm_4]
  have e : cFd 4 3 = (6, 1, [-1, 8, 9, 10, 11, 25, 26, 27, 28, 29, 30, 7, 31]) := rfl
  have ei : idl (fun i => ([-1, 8, 9, 10, 11, 25, 26, 27, 28, 29, 30, 7, 31] : List Int).getD i (-1)) 13 = 1 := by decide +kernel
  rw [e]
  unfold fMay mayS
  rw [if_neg (by decide), if_neg (by decide), if_pos rfl]
  show (v < 2 ^ 12 ∧ -(2 ^ 12) ≤ v ∧ L_and v (idl (fun i => ([-1, 8, 9, 10, 11, 25, 26, 27, 28, 29, 30, 7, 31] : List Int).getD i (-1)) 13) = 0) ↔ _
  rw [ei, L_and_1, show (2 : Int) ^ 12 = 4096 from rfl]
  omega
theorem fimm_5 (v : Int) : fMay (cFd 5 3) v ↔ pImm 5 v = true := by
  rw [pImm_5]
  have e : cFd 5 3 = (6, 1, [-1, 8, 9, 10, 11, 25, 26, 27, 28, 29, 30, 7, 31]) := rfl
  have ei : idl (fun i => ([-1, 8, 9, 10, 11, 25, 26, 27, 28, 29, 30, 7, 31] : List Int).getD i (-1)) 13 = 1 := by decide +kernel
  rw [e]
  unfold fMay mayS
  rw [if_neg (by decide), if_neg (by decide), if_pos rfl]
  show (v < 2 ^ 12 ∧ -(2 ^ 12) ≤ v ∧ L_and v (idl (fun i => ([-1, 8, 9, 10, 11, 25, 26, 27, 28, 29, 30, 7, 31] : List Int).getD i (-1)) 13) = 0) ↔ _
  rw [ei, L_and_1, show (2 : Int) ^ 12 = 4096 from rfl]
  omega
theorem fimm_6 (v : Int) : fMay (cFd 6 3) v ↔ pImm 6 v = true := by
  rw [pImm_6]
  have e : cFd 6 3 = (6, 1, [-1, 8, 9, 10, 11, 25, 26, 27, 28, 29, 30, 7, 31]) := rfl
  have ei : idl (fun i => ([-1, 8, 9, 10, 11, 25, 26, 27, 28, 29, 30, 7, 31] : List Int).getD i (-1)) 13 = 1 := by decide +kernel
  rw [e]
  unfold fMay mayS
  rw [if_neg (by decide), if_neg (by decide), if_pos rfl]
  show (v < 2 ^ 12 ∧ -(2 ^ 12) ≤ v ∧ L_and v (idl (fun i => ([-1, 8, 9, 10, 11, 25, 26, 27, 28, 29, 30, 7, 31] : List Int).getD i (-1)) 13) = 0) ↔ _
  rw [ei, L_and_1, show (2 : Int) ^ 12 = 4096 from rfl]
  omega
theorem fimm_7 (v : Int) : fMay (cFd 7 3) v ↔ pImm 7 v = true := by
  rw [pImm_7]
  have e : cFd 7 3 = (6, 1, [-1, 8, 9, 10, 11, 25, 26, 27, 28, 29, 30, 7, 31]) := rfl
  have ei : idl (fun i => ([-1, 8, 9, 10, 11, 25, 26, 27, 28, 29, 30, 7, 31] : List Int).getD i (-1)) 13 = 1 := by decide +kernel
  rw [e]
  unfold fMay mayS
  rw [if_neg (by decide), if_neg (by decide), if_pos rfl]
  show (v < 2 ^ 12 ∧ -(2 ^ 12) ≤ v ∧ L_and v (idl (fun i => ([-1, 8, 9, 10, 11, 25, 26, 27, 28, 29, 30, 7, 31] : List Int).getD i (-1)) 13) = 0) ↔ _
  rw [ei, L_and_1, show (2 : Int) ^ 12 = 4096 from rfl]
  omega
theorem fimm_8 (v : Int) : fMay (cFd 8 3) v ↔ pImm 8 v = true := by
  rw [pImm_8]
  have e : cFd 8 3 = (6, 1, [-1, 8, 9, 10, 11, 25, 26, 27, 28, 29, 30, 7, 31]) := rfl
  have ei : idl (fun i => ([-1, 8, 9, 10, 11, 25, 26, 27, 28, 29, 30, 7, 31] : List Int).getD i (-1)) 13 = 1 := by decide +kernel
  rw [e]
  unfold fMay mayS
  rw [if_neg (by decide), if_neg (by decide), if_pos rfl]
  show (v < 2 ^ 12 ∧ -(2 ^ 12) ≤ v ∧ L_and v (idl (fun i => ([-1, 8, 9, 10, 11, 25, 26, 27, 28, 29, 30, 7, 31] : List Int).getD i (-1)) 13) = 0) ↔ _
  rw [ei, L_and_1, show (2 : Int) ^ 12 = 4096 from rfl]
  omega
theorem fimm_9 (v : Int) : fMay (cFd 9 3) v ↔ pImm 9 v = true := by
  rw [pImm_9]
  have e : cFd 9 3 = (6, 1, [-1, 8, 9, 10, 11, 25, 26, 27, 28, 29, 30, 7, 31]) := rfl
  have ei : idl (fun i => ([-1, 8, 9, 10, 11, 25, 26, 27, 28, 29, 30, 7, 31] : List Int).getD i (-1)) 13 = 1 := by decide +kernel
  rw [e]
  unfold fMay mayS
  rw [if_neg (by decide), if_neg (by decide), if_pos rfl]
  show (v < 2 ^ 12 ∧ -(2 ^ 12) ≤ v ∧ L_and v (idl (fun i => ([-1, 8, 9, 10, 11, 25, 26, 27, 28, 29, 30, 7, 31] : List Int).getD i (-1)) 13) = 0) ↔ _
  rw [ei, L_and_1, show (2 : Int) ^ 12 = 4096 from rfl]
  omega
theorem fimm_10 (v : Int) : fMay (cFd 10 3) v ↔ pImm 10 v = true := by
  rw [pImm_10]
  have e : cFd 10 3 = (6, 1, [20, 21, 22, 23, 24, 25, 26, 27, 28, 29, 30, 31]) := rfl
  have ei : idl (fun i => ([20, 21, 22, 23, 24, 25, 26, 27, 28, 29, 30, 31] : List Int).getD i (-1)) 12 = 0 := by decide +kernel
  rw [e]
  unfold fMay mayS
  rw [if_neg (by decide), if_neg (by decide), if_pos rfl]
  show (v < 2 ^ 11 ∧ -(2 ^ 11) ≤ v ∧ L_and v (idl (fun i => ([20, 21, 22, 23, 24, 25, 26, 27, 28, 29, 30, 31] : List Int).getD i (-1)) 12) = 0) ↔ _
  rw [ei, L_and_0', show (2 : Int) ^ 11 = 2048 from rfl]
  omega
theorem fimm_11 (v : Int) : fMay (cFd 11 3) v ↔ pImm 11 v = true := by
  rw [pImm_11]
  have e : cFd 11 3 = (6, 1, [20, 21, 22, 23, 24, 25, 26, 27, 28, 29, 30, 31]) := rfl
  have ei : idl (fun i => ([20, 21, 22, 23, 24, 25, 26, 27, 28, 29, 30, 31] : List Int).getD i (-1)) 12 = 0 := by decide +kernel
  rw [e]
  unfold fMay mayS
  rw [if_neg (by decide), if_neg (by decide), if_pos rfl]
  show (v < 2 ^ 11 ∧ -(2 ^ 11) ≤ v ∧ L_and v (idl (fun i => ([20, 21, 22, 23, 24, 25, 26, 27, 28, 29, 30, 31] : List Int).getD i (-1)) 12) = 0) ↔ _
  rw [ei, L_and_0', show (2 : Int) ^ 11 = 2048 from rfl]
  omega
theorem fimm_12 (v : Int) : fMay (cFd 12 3) v ↔ pImm 12 v = true := by
  rw [pImm_12]
  have e : cFd 12 3 = (6, 1, [20, 21, 22, 23, 24, 25, 26, 27, 28, 29, 30, 31]) := rfl
  have ei : idl (fun i => ([20, 21, 22, 23, 24, 25, 26, 27, 28, 29, 30, 31] : List Int).getD i (-1)) 12 = 0 := by decide +kernel
  rw [e]
  unfold fMay mayS
  rw [if_neg (by decide), if_neg (by decide), if_pos rfl]
  show (v < 2 ^ 11 ∧ -(2 ^ 11) ≤ v ∧ L_and v (idl (fun i => ([20, 21, 22, 23, 24, 25, 26, 27, 28, 29, 30, 31] : List Int).getD i (-1)) 12) = 0) ↔ _
  rw [ei, L_and_0', show (2 : Int) ^ 11 = 2048 from rfl]
  omega
theorem fimm_13 (v : Int) : fMay (cFd 13 3) v ↔ pImm 13 v = true := by
  rw [pImm_13]
  have e : cFd 13 3 = (6, 1, [20, 21, 22, 23, 24, 25, 26, 27, 28, 29, 30, 31]) := rfl
  have ei : idl (fun i => ([20, 21, 22, 23, 24, 25, 26, 27, 28, 29, 30, 31] : List Int).getD i (-1)) 12 = 0 := by decide +kernel
  rw [e]
  unfold fMay mayS
  rw [if_neg (by decide), if_neg (by decide), if_pos rfl]
  show (v < 2 ^ 11 ∧ -(2 ^ 11) ≤ v ∧ L_and v (idl (fun i => ([20, 21, 22, 23, 24, 25, 26, 27, 28, 29, 30, 31] : List Int).getD i (-1)) 12) = 0) ↔ _
  rw [ei, L_and_0', show (2 : Int) ^ 11 = 2048 from rfl]
  omega
theorem fimm_14 (v : Int) : fMay (cFd 14 3) v ↔ pImm 14 v = true := by
  rw [pImm_14]
  have e : cFd 14 3 = (6, 1, [20, 21, 22, 23, 24, 25, 26, 27, 28, 29, 30, 31]) := rfl
  have ei : idl (fun i => ([20, 21, 22, 23, 24, 25, 26, 27, 28, 29, 30, 31] : List Int).getD i (-1)) 12 = 0 := by decide +kernel
  rw [e]
  unfold fMay mayS
  rw [if_neg (by decide), if_neg (by decide), if_pos rfl]
  show (v < 2 ^ 11 ∧ -(2 ^ 11) ≤ v ∧ L_and v (idl (fun i => ([20, 21, 22, 23, 24, 25, 26, 27, 28, 29, 30, 31] : List Int).getD i (-1)) 12) = 0) ↔ _
  rw [ei, L_and_0', show (2 : Int) ^ 11 = 2048 from rfl]
  omega
theorem fimm_15 (v : Int) : fMay (cFd 15 3) v ↔ pImm 15 v = true := by
  rw [pImm_15]
  have e : cFd 15 3 = (6, 1, [7, 8, 9, 10, 11, 25, 26, 27, 28, 29, 30, 31]) := rfl
  have ei : idl (fun i => ([7, 8, 9, 10, 11, 25, 26, 27, 28, 29, 30, 31] : List Int).getD i (-1)) 12 = 0 := by decide +kernel
  rw [e]
  unfold fMay mayS
  rw [if_neg (by decide), if_neg (by decide), if_pos rfl]
  show (v < 2 ^ 11 ∧ -(2 ^ 11) ≤ v ∧ L_and v (idl (fun i => ([7, 8, 9, 10, 11, 25, 26, 27, 28, 29, 30, 31] : List Int).getD i (-1)) 12) = 0) ↔ _
  rw [ei, L_and_0', show (2 : Int) ^ 11 = 2048 from rfl]
  omega
theorem fimm_16 (v : Int) : fMay (cFd 16 3) v ↔ pImm 16 v = true := by
  rw [pImm_16]
  have e : cFd 16 3 = (6, 1, [7, 8, 9, 10, 11, 25, 26, 27, 28, 29, 30, 31]) := rfl
  have ei : idl (fun i => ([7, 8, 9, 10, 11, 25, 26, 27, 28, 29, 30, 31] : List Int).getD i (-1)) 12 = 0 := by decide +kernel
  rw [e]
  unfold fMay mayS
  rw [if_neg (by decide), if_neg (by decide), if_pos rfl]
  show (v < 2 ^ 11 ∧ -(2 ^ 11) ≤ v ∧ L_and v (idl (fun i => ([7, 8, 9, 10, 11, 25, 26, 27, 28, 29, 30, 31] : List Int).getD i (-1)) 12) = 0) ↔ _
  rw [ei, L_and_0', show (2 : Int) ^ 11 = 2048 from rfl]
  omega
theorem fimm_17 (v : Int) : fMay (cFd 17 3) v ↔ pImm 17 v = true := by
  rw [pImm_17]
  have e : cFd 17 3 = (6, 1, [7, 8, 9, 10, 11, 25, 26, 27, 28, 29, 30, 31]) := rfl
  have ei : idl (fun i => ([7, 8, 9, 10, 11, 25, 26, 27, 28, 29, 30, 31] : List Int).getD i (-1)) 12 = 0 := by decide +kernel
  rw [e]
  unfold fMay mayS
  rw [if_neg (by decide), if_neg (by decide), if_pos rfl]
  show (v < 2 ^ 11 ∧ -(2 ^ 11) ≤ v ∧ L_and v (idl (fun i => ([7, 8, 9, 10, 11, 25, 26, 27, 28, 29, 30, 31] : List Int).getD i (-1)) 12) = 0) ↔ _
  rw [ei, L_and_0', show (2 : Int) ^ 11 = 2048 from rfl]
  omega
theorem fimm_18 (v : Int) : fMay (cFd 18 3) v ↔ pImm 18 v = true := by
  rw [pImm_18]
  have e : cFd 18 3 = (6, 1, [20, 21, 22, 23, 24, 25, 26, 27, 28, 29, 30, 31]) := rfl
  have ei : idl (fun i => ([20, 21, 22, 23, 24, 25, 26, 27, 28, 29, 30, 31] : List Int).getD i (-1)) 12 = 0 := by decide +kernel
  rw [e]
  unfold fMay mayS
  rw [if_neg (by decide), if_neg (by decide), if_pos rfl]
  show (v < 2 ^ 11 ∧ -(2 ^ 11) ≤ v ∧ L_and v (idl (fun i => ([20, 21, 22, 23, 24, 25, 26, 27, 28, 29, 30, 31] : List Int).getD i (-1)) 12) = 0) ↔ _
  rw [ei, L_and_0', show (2 : Int) ^ 11 = 2048 from rfl]
  omega
theorem fimm_19 (v : Int) : fMay (cFd 19 3) v ↔ pImm 19 v = true := by
  rw [pImm_19]
  have e : cFd 19 3 = (6, 1, [20, 21, 22, 23, 24, 25, 26, 27, 28, 29, 30, 31]) := rfl
  have ei : idl (fun i => ([20, 21, 22, 23, 24, 25, 26, 27, 28, 29, 30, 31] : List Int).getD i (-1)) 12 = 0 := by decide +kernel
  rw [e]
  unfold fMay mayS
  rw [if_neg (by decide), if_neg (by decide), if_pos rfl]
  show (v < 2 ^ 11 ∧ -(2 ^ 11) ≤ v ∧ L_and v (idl (fun i => ([20, 21, 22, 23, 24, 25, 26, 27, 28, 29, 30, 31] : List Int).getD i (-1)) 12) = 0) ↔ _
  rw [ei, L_and_0', show (2 : Int) ^ 11 = 2048 from rfl]
  omega
theorem fimm_20 (v : Int) : fMay (cFd 20 3) v ↔ pImm 20 v = true := by
  rw [pImm_20]
  have e : cFd 20 3 = (6, 1, [20, 21, 22, 23, 24, 25, 26, 27, 28, 29, 30, 31]) := rfl
  have ei : idl (fun i => ([20, 21, 22, 23, 24, 25, 26, 27, 28, 29, 30, 31] : List Int).getD i (-1)) 12 = 0 := by decide +kernel
  rw [e]
  unfold fMay mayS
  rw [if_neg (by decide), if_neg (by decide), if_pos rfl]
  show (v < 2 ^ 11 ∧ -(2 ^ 11) ≤ v ∧ L_and v (idl (fun i => ([20, 21, 22, 23, 24, 25, 26, 27, 28, 29, 30, 31] : List Int).getD i (-1)) 12) = 0) ↔ _
  rw [ei, L_and_0', show (2 : Int) ^ 11 = 2048 from rfl]
  omega
theorem fimm_21 (v : Int) : fMay (cFd 21 3) v ↔ pImm 21 v = true := by
  rw [pImm_21]
  have e : cFd 21 3 = (6, 1, [20, 21, 22, 23, 24, 25, 26, 27, 28, 29, 30, 31]) := rfl
  have ei : idl (fun i => ([20, 21, 22, 23, 24, 25, 26, 27, 28, 29, 30, 31] : List Int).getD i (-1)) 12 = 0 := by decide +kernel
  rw [e]
  unfold fMay mayS
  rw [if_neg (by decide), if_neg (by decide), if_pos rfl]
  show (v < 2 ^ 11 ∧ -(2 ^ 11) ≤ v ∧ L_and v (idl (fun i => ([20, 21, 22, 23, 24, 25, 26, 27, 28, 29, 30, 31] : List Int).getD i (-1)) 12) = 0) ↔ _
  rw [ei, L_and_0', show (2 : Int) ^ 11 = 2048 from rfl]
  omega
theorem fimm_22 (v : Int) : fMay (cFd 22 3) v ↔ pImm 22 v = true := by
  rw [pImm_22]
  have e : cFd 22 3 = (6, 1, [20, 21, 22, 23, 24, 25, 26, 27, 28, 29, 30, 31]) := rfl
  have ei : idl (fun i => ([20, 21, 22, 23, 24, 25, 26, 27, 28, 29, 30, 31] : List Int).getD i (-1)) 12 = 0 := by decide +kernel
  rw [e]
  unfold fMay mayS
  rw [if_neg (by decide), if_neg (by decide), if_pos rfl]
  show (v < 2 ^ 11 ∧ -(2 ^ 11) ≤ v ∧ L_and v (idl (fun i => ([20, 21, 22, 23, 24, 25, 26, 27, 28, 29, 30, 31] : List Int).getD i (-1)) 12) = 0) ↔ _
  rw [ei, L_and_0', show (2 : Int) ^ 11 = 2048 from rfl]
  omega
theorem fimm_23 (v : Int) : fMay (cFd 23 3) v ↔ pImm 23 v = true := by
  rw [pImm_23]
  have e : cFd 23 3 = (6, 1, [20, 21, 22, 23, 24, 25, 26, 27, 28, 29, 30, 31]) := rfl
  have ei : idl (fun i => ([20, 21, 22, 23, 24, 25, 26, 27, 28, 29, 30, 31] : List Int).getD i (-1)) 12 = 0 := by decide +kernel
  rw [e]
  unfold fMay mayS
  rw [if_neg (by decide), if_neg (by decide), if_pos rfl]
  show (v < 2 ^ 11 ∧ -(2 ^ 11) ≤ v ∧ L_and v (idl (fun i => ([20, 21, 22, 23, 24, 25, 26, 27, 28, 29, 30, 31] : List Int).getD i (-1)) 12) = 0) ↔ _
  rw [ei, L_and_0', show (2 : Int) ^ 11 = 2048 from rfl]
  omega
theorem fimm_24 (v : Int) : fMay (cFd 24 3) v ↔ pImm 24 v = true := by
  rw [pImm_24]
  have e : cFd 24 3 = (6, 0, [20, 21, 22, 23, 24]) := rfl
  have ei : idl (fun i => ([20, 21, 22, 23, 24] : List Int).getD i (-1)) 5 = 0 := by decide +kernel
  rw [e]
  unfold fMay mayS
  rw [if_neg (by decide), if_neg (by decide), if_pos rfl]
  show (v < 2 ^ 5 ∧ 0 ≤ v ∧ L_and v (idl (fun i => ([20, 21, 22, 23, 24] : List Int).getD i (-1)) 5) = 0) ↔ _
  rw [ei, L_and_0', show (2 : Int) ^ 5 = 32 from rfl]
  omega
theorem fimm_25 (v : Int) : fMay (cFd 25 3) v ↔ pImm 25 v = true := by
  rw [pImm_25]
  have e : cFd 25 3 = (6, 0, [20, 21, 22, 23, 24]) := rfl
  have ei : idl (fun i => ([20, 21, 22, 23, 24] : List Int).getD i (-1)) 5 = 0 := by decide +kernel
  rw [e]
  unfold fMay mayS
  rw [if_neg (by decide), if_neg (by decide), if_pos rfl]
  show (v < 2 ^ 5 ∧ 0 ≤ v ∧ L_and v (idl (fun i => ([20, 21, 22, 23, 24] : List Int).getD i (-1)) 5) = 0) ↔ _
  rw [ei, L_and_0', show (2 : Int) ^ 5 = 32 from rfl]
  omega
theorem fimm_26 (v : Int) : fMay (cFd 26 3) v ↔ pImm 26 v = true := by
  rw [pImm_26]
  have e : cFd 26 3 = (6, 0, [20, 21, 22, 23, 24]) := rfl
  have ei : idl (fun i => ([20, 21, 22, 23, 24] : List Int).getD i (-1)) 5 = 0 := by decide +kernel
  rw [e]
  unfold fMay mayS
  rw [if_neg (by decide), if_neg (by decide), if_pos rfl]
  show (v < 2 ^ 5 ∧ 0 ≤ v ∧ L_and v (idl (fun i => ([20, 21, 22, 23, 24] : List Int).getD i (-1)) 5) = 0) ↔ _
  rw [ei, L_and_0', show (2 : Int) ^ 5 = 32 from rfl]
  omega
theorem fimm_48 (v : Int) : fMay (cFd 48 3) v ↔ pImm 48 v = true := by
  rw [pImm_48]
  have e : cFd 48 3 = (12, 0, [-1, -1, 6, 5, 11, 12, 7, 8, 9, 10]) := rfl
  have ei : idl (fun i => ([-1, -1, 6, 5, 11, 12, 7, 8, 9, 10] : List Int).getD i (-1)) 10 = 3 := by decide +kernel
  rw [e]
  unfold fMay mayS
  rw [if_neg (by decide), if_neg (by decide), if_neg (by decide), if_pos rfl]
  show ¬ v = 0 ∧ (v < 2 ^ 10 ∧ 0 ≤ v ∧ L_and v (idl (fun i => ([-1, -1, 6, 5, 11, 12, 7, 8, 9, 10] : List Int).getD i (-1)) 10) = 0) ↔ _
  rw [ei, L_and_3', show (2 : Int) ^ 10 = 1024 from rfl]
  omega
theorem fimm_49 (v : Int) : fMay (cFd 49 3) v ↔ pImm 49 v = true := by
  rw [pImm_49]
  have e : cFd 49 3 = (6, 0, [-1, -1, 6, 10, 11, 12, 5]) := rfl
  have ei : idl (fun i => ([-1, -1, 6, 10, 11, 12, 5] : List Int).getD i (-1)) 7 = 3 := by decide +kernel
  rw [e]
  unfold fMay mayS
  rw [if_neg (by decide), if_neg (by decide), if_pos rfl]
  show (v < 2 ^ 7 ∧ 0 ≤ v ∧ L_and v (idl (fun i => ([-1, -1, 6, 10, 11, 12, 5] : List Int).getD i (-1)) 7) = 0) ↔ _
  rw [ei, L_and_3', show (2 : Int) ^ 7 = 128 from rfl]
  omega
theorem fimm_50 (v : Int) : fMay (cFd 50 3) v ↔ pImm 50 v = true := by
  rw [pImm_50]
  have e : cFd 50 3 = (6, 0, [-1, -1, 6, 10, 11, 12, 5]) := rfl
  have ei : idl (fun i => ([-1, -1, 6, 10, 11, 12, 5] : List Int).getD i (-1)) 7 = 3 := by decide +kernel
  rw [e]
  unfold fMay mayS
  rw [if_neg (by decide), if_neg (by decide), if_pos rfl]
  show (v < 2 ^ 7 ∧ 0 ≤ v ∧ L_and v (idl (fun i => ([-1, -1, 6, 10, 11, 12, 5] : List Int).getD i (-1)) 7) = 0) ↔ _
  rw [ei, L_and_3', show (2 : Int) ^ 7 = 128 from rfl]
  omega
theorem fimm_52 (v : Int) : fMay (cFd 52 3) v ↔ pImm 52 v = true := by
  rw [pImm_52]
  have e : cFd 52 3 = (12, 1, [2, 3, 4, 5, 6, 12]) := rfl
  have ei : idl (fun i => ([2, 3, 4, 5, 6, 12] : List Int).getD i (-1)) 6 = 0 := by decide +kernel
  rw [e]
  unfold fMay mayS
  rw [if_neg (by decide), if_neg (by decide), if_neg (by decide), if_pos rfl]
  show ¬ v = 0 ∧ (v < 2 ^ 5 ∧ -(2 ^ 5) ≤ v ∧ L_and v (idl (fun i => ([2, 3, 4, 5, 6, 12] : List Int).getD i (-1)) 6) = 0) ↔ _
  rw [ei, L_and_0', show (2 : Int) ^ 5 = 32 from rfl]
  omega
theorem fimm_53 (v : Int) : fMay (cFd 53 3) v ↔ pImm 53 v = true := by
  rw [pImm_53]
  have e : cFd 53 3 = (6, 1, [-1, 3, 4, 5, 11, 2, 7, 6, 9, 10, 8, 12]) := rfl
  have ei : idl (fun i => ([-1, 3, 4, 5, 11, 2, 7, 6, 9, 10, 8, 12] : List Int).getD i (-1)) 12 = 1 := by decide +kernel
  rw [e]
  unfold fMay mayS
  rw [if_neg (by decide), if_neg (by decide), if_pos rfl]
  show (v < 2 ^ 11 ∧ -(2 ^ 11) ≤ v ∧ L_and v (idl (fun i => ([-1, 3, 4, 5, 11, 2, 7, 6, 9, 10, 8, 12] : List Int).getD i (-1)) 12) = 0) ↔ _
  rw [ei, L_and_1, show (2 : Int) ^ 11 = 2048 from rfl]
  omega
theorem fimm_54 (v : Int) : fMay (cFd 54 3) v ↔ pImm 54 v = true := by
  rw [pImm_54]
  have e : cFd 54 3 = (6, 1, [2, 3, 4, 5, 6, 12]) := rfl
  have ei : idl (fun i => ([2, 3, 4, 5, 6, 12] : List Int).getD i (-1)) 6 = 0 := by decide +kernel
  rw [e]
  unfold fMay mayS
  rw [if_neg (by decide), if_neg (by decide), if_pos rfl]
  show (v < 2 ^ 5 ∧ -(2 ^ 5) ≤ v ∧ L_and v (idl (fun i => ([2, 3, 4, 5, 6, 12] : List Int).getD i (-1)) 6) = 0) ↔ _
  rw [ei, L_and_0', show (2 : Int) ^ 5 = 32 from rfl]
  omega
theorem fimm_55 (v : Int) : fMay (cFd 55 3) v ↔ pImm 55 v = true := by
  rw [pImm_55]
  have e : cFd 55 3 = (12, 1, [-1, -1, -1, -1, 6, 2, 5, 3, 4, 12]) := rfl
  have ei : idl (fun i => ([-1, -1, -1, -1, 6, 2, 5, 3, 4, 12] : List Int).getD i (-1)) 10 = 15 := by decide +kernel
  rw [e]
  unfold fMay mayS
  rw [if_neg (by decide), if_neg (by decide), if_neg (by decide), if_pos rfl]
  show ¬ v = 0 ∧ (v < 2 ^ 9 ∧ -(2 ^ 9) ≤ v ∧ L_and v (idl (fun i => ([-1, -1, -1, -1, 6, 2, 5, 3, 4, 12] : List Int).getD i (-1)) 10) = 0) ↔ _
  rw [ei, L_and_15', show (2 : Int) ^ 9 = 512 from rfl]
  omega
theorem fimm_56 (v : Int) : fMay (cFd 56 3) v ↔ pImm 56 v = true := by
  rw [pImm_56]
  have e : cFd 56 3 = (14, 1, [2, 3, 4, 5, 6, 12]) := rfl
  rw [e]
  unfold fMay
  rw [if_neg (by decide), if_neg (by decide), if_neg (by decide), if_neg (by decide)]
  omega
theorem fimm_57 (v : Int) : fMay (cFd 57 3) v ↔ pImm 57 v = true := by
  rw [pImm_57]
  have e : cFd 57 3 = (12, 0, [2, 3, 4, 5, 6]) := rfl
  have ei : idl (fun i => ([2, 3, 4, 5, 6] : List Int).getD i (-1)) 5 = 0 := by decide +kernel
  rw [e]
  unfold fMay mayS
  rw [if_neg (by decide), if_neg (by decide), if_neg (by decide), if_pos rfl]
  show ¬ v = 0 ∧ (v < 2 ^ 5 ∧ 0 ≤ v ∧ L_and v (idl (fun i => ([2, 3, 4, 5, 6] : List Int).getD i (-1)) 5) = 0) ↔ _
  rw [ei, L_and_0', show (2 : Int) ^ 5 = 32 from rfl]
  omega
theorem fimm_58 (v : Int) : fMay (cFd 58 3) v ↔ pImm 58 v = true := by
  rw [pImm_58]
  have e : cFd 58 3 = (12, 0, [2, 3, 4, 5, 6]) := rfl
  have ei : idl (fun i => ([2, 3, 4, 5, 6] : List Int).getD i (-1)) 5 = 0 := by decide +kernel
  rw [e]
  unfold fMay mayS
  rw [if_neg (by decide), if_neg (by decide), if_neg (by decide), if_pos rfl]
  show ¬ v = 0 ∧ (v < 2 ^ 5 ∧ 0 ≤ v ∧ L_and v (idl (fun i => ([2, 3, 4, 5, 6] : List Int).getD i (-1)) 5) = 0) ↔ _
  rw [ei, L_and_0', show (2 : Int) ^ 5 = 32 from rfl]
  omega
theorem fimm_59 (v : Int) : fMay (cFd 59 3) v ↔ pImm 59 v = true := by
  rw [pImm_59]
  have e : cFd 59 3 = (6, 1, [2, 3, 4, 5, 6, 12]) := rfl
  have ei : idl (fun i => ([2, 3, 4, 5, 6, 12] : List Int).getD i (-1)) 6 = 0 := by decide +kernel
  rw [e]
  unfold fMay mayS
  rw [if_neg (by decide), if_neg (by decide), if_pos rfl]
  show (v < 2 ^ 5 ∧ -(2 ^ 5) ≤ v ∧ L_and v (idl (fun i => ([2, 3, 4, 5, 6, 12] : List Int).getD i (-1)) 6) = 0) ↔ _
  rw [ei, L_and_0', show (2 : Int) ^ 5 = 32 from rfl]
  omega
theorem fimm_64 (v : Int) : fMay (cFd 64 3) v ↔ pImm 64 v = true := by
  rw [pImm_64]
  have e : cFd 64 3 = (6, 1, [-1, 3, 4, 5, 11, 2, 7, 6, 9, 10, 8, 12]) := rfl
  have ei : idl (fun i => ([-1, 3, 4, 5, 11, 2, 7, 6, 9, 10, 8, 12] : List Int).getD i (-1)) 12 = 1 := by decide +kernel
  rw [e]
  unfold fMay mayS
  rw [if_neg (by decide), if_neg (by decide), if_pos rfl]
  show (v < 2 ^ 11 ∧ -(2 ^ 11) ≤ v ∧ L_and v (idl (fun i => ([-1, 3, 4, 5, 11, 2, 7, 6, 9, 10, 8, 12] : List Int).getD i (-1)) 12) = 0) ↔ _
  rw [ei, L_and_1, show (2 : Int) ^ 11 = 2048 from rfl]
  omega
theorem fimm_65 (v : Int) : fMay (cFd 65 3) v ↔ pImm 65 v = true := by
  rw [pImm_65]
  have e : cFd 65 3 = (6, 1, [-1, 3, 4, 10, 11, 2, 5, 6, 12]) := rfl
  have ei : idl (fun i => ([-1, 3, 4, 10, 11, 2, 5, 6, 12] : List Int).getD i (-1)) 9 = 1 := by decide +kernel
  rw [e]
  unfold fMay mayS
  rw [if_neg (by decide), if_neg (by decide), if_pos rfl]
  show (v < 2 ^ 8 ∧ -(2 ^ 8) ≤ v ∧ L_and v (idl (fun i => ([-1, 3, 4, 10, 11, 2, 5, 6, 12] : List Int).getD i (-1)) 9) = 0) ↔ _
  rw [ei, L_and_1, show (2 : Int) ^ 8 = 256 from rfl]
  omega
theorem fimm_66 (v : Int) : fMay (cFd 66 3) v ↔ pImm 66 v = true := by
  rw [pImm_66]
  have e : cFd 66 3 = (6, 1, [-1, 3, 4, 10, 11, 2, 5, 6, 12]) := rfl
  have ei : idl (fun i => ([-1, 3, 4, 10, 11, 2, 5, 6, 12] : List Int).getD i (-1)) 9 = 1 := by decide +kernel
  rw [e]
  unfold fMay mayS
  rw [if_neg (by decide), if_neg (by decide), if_pos rfl]
  show (v < 2 ^ 8 ∧ -(2 ^ 8) ≤ v ∧ L_and v (idl (fun i => ([-1, 3, 4, 10, 11, 2, 5, 6, 12] : List Int).getD i (-1)) 9) = 0) ↔ _
  rw [ei, L_and_1, show (2 : Int) ^ 8 = 256 from rfl]
  omega
theorem fimm_67 (v : Int) : fMay (cFd 67 3) v ↔ pImm 67 v = true := by
  rw [pImm_67]
  have e : cFd 67 3 = (12, 0, [2, 3, 4, 5, 6]) := rfl
  have ei : idl (fun i => ([2, 3, 4, 5, 6] : List Int).getD i (-1)) 5 = 0 := by decide +kernel
  rw [e]
  unfold fMay mayS
  rw [if_neg (by decide), if_neg (by decide), if_neg (by decide), if_pos rfl]
  show ¬ v = 0 ∧ (v < 2 ^ 5 ∧ 0 ≤ v ∧ L_and v (idl (fun i => ([2, 3, 4, 5, 6] : List Int).getD i (-1)) 5) = 0) ↔ _
  rw [ei, L_and_0', show (2 : Int) ^ 5 = 32 from rfl]
  omega
theorem fimm_68 (v : Int) : fMay (cFd 68 3) v ↔ pImm 68 v = true := by
  rw [pImm_68]
  have e : cFd 68 3 = (6, 0, [-1, -1, 4, 5, 6, 12, 2, 3]) := rfl
  have ei : idl (fun i => ([-1, -1, 4, 5, 6, 12, 2, 3] : List Int).getD i (-1)) 8 = 3 := by decide +kernel
  rw [e]
  unfold fMay mayS
  rw [if_neg (by decide), if_neg (by decide), if_pos rfl]
  show (v < 2 ^ 8 ∧ 0 ≤ v ∧ L_and v (idl (fun i => ([-1, -1, 4, 5, 6, 12, 2, 3] : List Int).getD i (-1)) 8) = 0) ↔ _
  rw [ei, L_and_3', show (2 : Int) ^ 8 = 256 from rfl]
  omega
theorem fimm_74 (v : Int) : fMay (cFd 74 3) v ↔ pImm 74 v = true := by
  rw [pImm_74]
  have e : cFd 74 3 = (6, 0, [-1, -1, 9, 10, 11, 12, 7, 8]) := rfl
  have ei : idl (fun i => ([-1, -1, 9, 10, 11, 12, 7, 8] : List Int).getD i (-1)) 8 = 3 := by decide +kernel
  rw [e]
  unfold fMay mayS
  rw [if_neg (by decide), if_neg (by decide), if_pos rfl]
  show (v < 2 ^ 8 ∧ 0 ≤ v ∧ L_and v (idl (fun i => ([-1, -1, 9, 10, 11, 12, 7, 8] : List Int).getD i (-1)) 8) = 0) ↔ _
  rw [ei, L_and_3', show (2 : Int) ^ 8 = 256 from rfl]
  omega
theorem fimm_k (v : Int) : ∀ k, k < 75 → ¬ (cFd k 3).1 = 0 → (fMay (cFd k 3) v ↔ pImm k v = true)
  | 0, _, _ => fimm_0 v
  | 1, _, _ => fimm_1 v
  | 2, _, _ => fimm_2 v
  | 3, _, _ => fimm_3 v
  | 4, _, _ => fimm_4 v
  | 5, _, _ => fimm_5 v
  | 6, _, _ => fimm_6 v
  | 7, _, _ => fimm_7 v
  | 8, _, _ => fimm_8 v
  | 9, _, _ => fimm_9 v
  | 10, _, _ => fimm_10 v
  | 11, _, _ => fimm_11 v
  | 12, _, _ => fimm_12 v
  | 13, _, _ => fimm_13 v
  | 14, _, _ => fimm_14 v
  | 15, _, _ => fimm_15 v
  | 16, _, _ => fimm_16 v
  | 17, _, _ => fimm_17 v
  | 18, _, _ => fimm_18 v
  | 19, _, _ => fimm_19 v
  | 20, _, _ => fimm_20 v
  | 21, _, _ => fimm_21 v
  | 22, _, _ => fimm_22 v
  | 23, _, _ => fimm_23 v
  | 24, _, _ => fimm_24 v
  | 25, _, _ => fimm_25 v
  | 26, _, _ => fimm_26 v
  | 27, _, h => absurd rfl h
  | 28, _, h => absurd rfl h
  | 29, _, h => absurd rfl h
  | 30, _, h => absurd rfl h
  | 31, _, h => absurd rfl h
  | 32, _, h => absurd rfl h
  | 33, _, h => absurd rfl h
  | 34, _, h => absurd rfl h
  | 35, _, h => absurd rfl h
  | 36, _, h => absurd rfl h
  | 37, _, h => absurd rfl h
  | 38, _, h => absurd rfl h
  | 39, _, h => absurd rfl h
  | 40, _, h => absurd rfl h
  | 41, _, h => absurd rfl h
  | 42, _, h => absurd rfl h
  | 43, _, h => absurd rfl h
  | 44, _, h => absurd rfl h
  | 45, _, h => absurd rfl h
  | 46, _, h => absurd rfl h
  | 47, _, h => absurd rfl h
  | 48, _, _ => fimm_48 v
  | 49, _, _ => fimm_49 v
  | 50, _, _ => fimm_50 v
  | 51, _, h => absurd rfl h
  | 52, _, _ => fimm_52 v
  | 53, _, _ => fimm_53 v
  | 54, _, _ => fimm_54 v
  | 55, _, _ => fimm_55 v
  | 56, _, _ => fimm_56 v
  | 57, _, _ => fimm_57 v
  | 58, _, _ => fimm_58 v
  | 59, _, _ => fimm_59 v
  | 60, _, h => absurd rfl h
  | 61, _, h => absurd rfl h
  | 62, _, h => absurd rfl h
  | 63, _, h => absurd rfl h
  | 64, _, _ => fimm_64 v
  | 65, _, _ => fimm_65 v
  | 66, _, _ => fimm_66 v
  | 67, _, _ => fimm_67 v
  | 68, _, _ => fimm_68 v
  | 69, _, h => absurd rfl h
  | 70, _, h => absurd rfl h
  | 71, _, h => absurd rfl h
  | 72, _, h => absurd rfl h
  | 73, _, h => absurd rfl h
  | 74, _, _ => fimm_74 v
  | n + 75, h, _ => absurd h (by omega)
/-- a register may be there -/
theorem freg_k {k e : Nat} (hk : k < 75) (he : e < 3) (h0 : ¬ (cFd k e).1 = 0) (v : Int) : fMay (cFd k e) v ↔ pReg k e v = true := by
  have hs := tab_sho k hk e he
  unfold pReg fMay
  rcases (tab_cls k hk).1 e he with c | c | c
  · exact absurd c h0
  · rw [if_pos c]
    rw [c] at hs
    rw [if_neg (by rw [hs]; decide), decide_eq_true_eq]
    constructor
    · rintro ⟨a, b, z⟩
      have := (tab_reg k hk e he v.toNat (by omega) c).mp z
      refine ⟨a, by omega, ?_⟩
      rcases this with q | q | q
      · exact .inl q
      · exact .inr (.inl q)
      · exact .inr (.inr ⟨by omega, fun y => q.2 ⟨y.1, by omega⟩⟩)
    · rintro ⟨a, b, z⟩
      refine ⟨a, by omega, (tab_reg k hk e he v.toNat (by omega) c).mpr ?_⟩
      rcases z with q | q | q
      · exact .inl q
      · exact .inr (.inl q)
      · exact .inr (.inr ⟨by omega, fun y => q.2 ⟨y.1, by omega⟩⟩)
  · rw [if_neg (by omega), if_pos c]
    rw [c] at hs
    rw [if_pos (by rw [hs]; decide), decide_eq_true_eq]
theorem fTake_4 {d : Nat × Int × List Int} {w : Int} (c : d.1 = 4) : fTake d w = tks w (fun i => d.2.2.getD i (-1)) d.2.2.length := by
  unfold fTake; rw [if_neg (by omega), if_pos (.inl c)]
theorem fTake_5 {d : Nat × Int × List Int} {w : Int} (c : d.1 = 5) : fTake d w = 8 + tks w (fun i => d.2.2.getD i (-1)) d.2.2.length := by
  unfold fTake; rw [if_pos c]
theorem fTake_0 {d : Nat × Int × List Int} {w : Int} (c : ¬ d.1 = 5) (z : d.2.1 = 0) : fTake d w = tks w (fun i => d.2.2.getD i (-1)) d.2.2.length := by
  unfold fTake; rw [if_neg c, if_pos (.inr z)]
theorem fTake_s {d : Nat × Int × List Int} {w : Int} (c : ¬ d.1 = 5) (c4 : ¬ d.1 = 4) (z : ¬ d.2.1 = 0) : fTake d w = if d.1 = 14 then I_and (sxt d.2.2.length (tks w (fun i => d.2.2.getD i (-1)) d.2.2.length)) 1048575 else sxt d.2.2.length (tks w (fun i => d.2.2.getD i (-1)) d.2.2.length) := by
  unfold fTake; rw [if_neg c, if_neg (by omega)]
/-- what a field takes is the twin's part -/
theorem take_adj {k : Nat} (hk : k < 75) {w : Int} {q : jP4} (h : pRes k w = some q) {e : Nat} (he : e < 4) : p4g (pAdj k q) e = if (cFd k e).1 = 0 then 0 else fTake (cFd k e) w := by
  have hp := pRes_part hk h he
  have hb := tks_b w (cG k e) (cN k e)
  obtain ⟨t1, t2, t3, t4⟩ := tab_cls k hk
  have ha : ∀ e, e < 3 → p4g (pAdj k q) e = p4g q e := fun e he => by
    have : e = 0 ∨ e = 1 ∨ e = 2 := by omega
    rcases this with rfl | rfl | rfl <;> rfl
  have hi : ∀ e, e < 3 → p4g (pIni k) e = if pSho k e = true then 8 else 0 := fun e he => by
    have : e = 0 ∨ e = 1 ∨ e = 2 := by omega
    rcases this with rfl | rfl | rfl <;> rfl
  by_cases e3 : e < 3
  · rw [ha e e3, hp, hi e e3, tab_sho k hk e e3]
    rcases t1 e e3 with c | c | c
    · rw [if_pos c, c, tab_zero k hk e he c]; rfl
    · rw [if_neg (show ¬ (cFd k e).1 = 0 by omega), fTake_4 c, if_neg (by rw [c]; decide)]
      show 0 + tks w (cG k e) (cN k e) = tks w (cG k e) (cN k e)
      omega
    · rw [if_neg (show ¬ (cFd k e).1 = 0 by omega), fTake_5 c, if_pos (by rw [c]; decide)]
      rfl
  · have e3' : e = 3 := by omega
    subst e3'
    have h3 : p4g q 3 = q.2.2.2 := rfl
    have h3' : p4g (pAdj k q) 3 = if k = 56 then I_and (pAdv k q.2.2.2) 1048575 else pAdv k q.2.2.2 := rfl
    have hi3 : p4g (pIni k) 3 = 0 := rfl
    rw [hi3, Int.zero_add, h3] at hp
    rw [h3', hp]
    unfold pAdv
    by_cases c0 : (cFd k 3).1 = 0
    · rw [if_pos c0, tab_zero k hk 3 (by omega) c0, if_neg (fun z => by have := t3.mpr z; omega)]
      show (if pSgn k < 0 then 0 else I_shr (I_shl 0 (31 - pSgn k)) (31 - pSgn k)) = 0
      have := pSgn_lo k
      by_cases z : pSgn k < 0
      · rw [if_pos z]
      · rw [if_neg z, i_shl_p (by omega) (by omega), Int.zero_mul, W32_in (by omega) (by omega), i_shr_p (by omega) (by omega) (by omega), Int.zero_ediv]
    · rw [if_neg c0]
      have hw : fWf (cFd k 3) = true := by
        rcases tab_wf k hk 3 (by omega) with z | z
        · exact absurd z c0
        · exact z
      have n4 : ¬ (cFd k 3).1 = 4 := by omega
      have n5 : ¬ (cFd k 3).1 = 5 := by omega
      obtain ⟨w1, w2, w3, w4, w5, w6⟩ := fWf_s hw n4 n5
      obtain ⟨s0, s1⟩ := t4 c0
      rcases w4 with z | z
      · rw [if_pos (s0 z), fTake_0 n5 z, if_neg (fun y => by have := w6 (t3.mpr y); omega)]; rfl
      · have hs := s1 z
        have hN : cN k 3 = (cFd k 3).2.2.length := rfl
        rw [fTake_s n5 (by omega) (by omega), if_neg (show ¬ pSgn k < 0 by omega), hs]
        rw [sxt_p (n := cN k 3) (by omega) (by omega) hb.1 hb.2 (by omega)]
        by_cases y : k = 56
        · rw [if_pos y, if_pos (t3.mpr y)]; rfl
        · rw [if_neg y, if_neg (fun x => y (t3.mp x))]; rfl
end jWords2
