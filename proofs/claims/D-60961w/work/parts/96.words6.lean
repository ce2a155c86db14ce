/-! words: may, fit -/
section jWords6
variable {s t : jS} {W V : Int}
theorem pbt_addm (a b : Int) (n m : Nat) (ha : 0 ≤ a ∧ a < 2 ^ n) (hb : 0 ≤ b ∧ b ≤ 1) (hm : m ≤ n) : pbt (a + b * 2 ^ n) m = if m = n then b else pbt a m := by
  unfold pbt
  by_cases c : m = n
  · subst c
    rw [if_pos rfl, Int.add_mul_ediv_right _ _ (Int.ne_of_gt (p2_pos m)), Int.ediv_eq_zero_of_lt ha.1 ha.2]
    omega
  · rw [if_neg c]
    obtain ⟨d, rfl⟩ : ∃ d, n = m + (d + 1) := ⟨n - m - 1, by omega⟩
    have e : b * (2 : Int) ^ (m + (d + 1)) = 2 ^ m * (b * 2 ^ d * 2) := by
      rw [Int.pow_add, Int.pow_succ]; ac_rfl
    rw [e, Int.add_mul_ediv_left _ _ (Int.ne_of_gt (p2_pos m)), Int.add_mul_emod_self_right]
theorem tks_bit (w : Int) (g : Nat → Int) : ∀ (n m : Nat), m < n → pbt (tks w g n) m = if g m = -1 then 0 else pbt w (g m).toNat
  | n + 1, m, h => by
    have hb := tks_b w g n
    have h01 := pbt_01 w (g n).toNat
    have e : tks w g (n + 1) = tks w g n + (if g n = -1 then 0 else pbt w (g n).toNat) * 2 ^ n := by
      show tks w g n + (if g n = -1 then 0 else pbt w (g n).toNat * 2 ^ n) = _
      by_cases c : g n = -1
      · rw [if_pos c, if_pos c, Int.zero_mul]
      · rw [if_neg c, if_neg c]
    rw [e, pbt_addm _ _ n m hb (by split <;> omega) (by omega)]
    by_cases c : m = n
    · subst c; rw [if_pos rfl]
    · rw [if_neg c]; exact tks_bit w g n m (by omega)
theorem sxt_bit (n m : Nat) (v : Int) (h : m < n) : pbt (sxt n v) m = pbt v m := by
  unfold sxt
  split
  · rfl
  · unfold pbt
    obtain ⟨d, rfl⟩ : ∃ d, n = m + (d + 1) := ⟨n - m - 1, by omega⟩
    have e : v - (2 : Int) ^ (m + (d + 1)) = v + 2 ^ m * (-(2 ^ d) * 2) := by
      rw [Int.pow_add, Int.pow_succ, Int.neg_mul, Int.mul_neg]; omega
    rw [e, Int.add_mul_ediv_left _ _ (Int.ne_of_gt (p2_pos m)), Int.add_mul_emod_self_right]
theorem and20_bit (v : Int) (m : Nat) (h : m < 20) : pbt (I_and v 1048575) m = pbt v m := by
  rw [I_and_1048575]
  unfold pbt
  obtain ⟨d, hd⟩ : ∃ d, 20 = m + (d + 1) := ⟨20 - m - 1, by omega⟩
  have e : (1048576 : Int) = 2 ^ m * (2 ^ d * 2) := by
    rw [← Int.pow_succ, ← Int.pow_add, ← hd]; rfl
  rw [e]
  have h := Int.emod_add_mul_ediv v (2 ^ m * (2 ^ d * 2))
  have h2 : v / 2 ^ m = (v % (2 ^ m * (2 ^ d * 2))) / 2 ^ m + (2 ^ d * (v / (2 ^ m * (2 ^ d * 2)))) * 2 := by
    have e2 : v = v % (2 ^ m * (2 ^ d * 2)) + 2 ^ m * ((2 ^ d * (v / (2 ^ m * (2 ^ d * 2)))) * 2) := by
      rw [show (2 : Int) ^ m * ((2 ^ d * (v / (2 ^ m * (2 ^ d * 2)))) * 2) = 2 ^ m * (2 ^ d * 2) * (v / (2 ^ m * (2 ^ d * 2))) by ac_rfl]
      exact h.symm
    have := congrArg (fun z => z / (2 : Int) ^ m) e2
    rw [this]
    show (v % (2 ^ m * (2 ^ d * 2)) + 2 ^ m * ((2 ^ d * (v / (2 ^ m * (2 ^ d * 2)))) * 2)) / 2 ^ m = _
    rw [Int.add_mul_ediv_left _ _ (Int.ne_of_gt (p2_pos m))]
  rw [h2, Int.add_mul_emod_self_right]
theorem tab_len : ∀ k, k < 75 → (cFd k 3).1 = 14 → cN k 3 = 6 := by decide +kernel
theorem skq_g (g : Nat → Int) (j : Nat) : ∀ n i, skq g j n = some i → i < n ∧ g i = (j : Int)
  | n + 1, i, h => by
    unfold skq at h
    by_cases c : g n = (j : Int)
    · rw [if_pos c] at h
      cases h
      exact ⟨by omega, c⟩
    · rw [if_neg c] at h
      obtain ⟨h1, h2⟩ := skq_g g j n i h
      exact ⟨by omega, h2⟩
/-- a part's bits are the word's -/
theorem part_bit {k : Nat} (hk : k < 75) {w : Int} {q : jP4} (h : pRes k w = some q) {e : Nat} (he : e < 4) {i j : Nat} (hs : sq k e j = some i) : pbt (if (cFd k e).1 = 5 then p4g (pAdj k q) e - 8 else p4g (pAdj k q) e) i = pbt w j := by
  obtain ⟨hi, hg⟩ := skq_g _ _ _ _ hs
  have hc : ¬ (cFd k e).1 = 0 := fun z => by rw [tab_zero k hk e he z] at hi; omega
  have hb := tks_bit w (cG k e) (cN k e) i hi
  rw [hg, if_neg (by omega), Int.toNat_natCast] at hb
  rw [take_adj hk h he, if_neg hc]
  have wf := wf_of hk he hc
  by_cases c5 : (cFd k e).1 = 5
  · rw [if_pos c5, fTake_5 c5]
    have : 8 + tks w (fun i => (cFd k e).2.2.getD i (-1)) (cFd k e).2.2.length - 8 = tks w (cG k e) (cN k e) := by
      show 8 + tks w (cG k e) (cN k e) - 8 = tks w (cG k e) (cN k e)
      omega
    rw [this, hb]
  rw [if_neg c5]
  by_cases c4 : (cFd k e).1 = 4
  · rw [fTake_4 c4]; exact hb
  obtain ⟨w1, w2, w3, w4, w5, w6⟩ := fWf_s wf c4 c5
  rcases w4 with z | z
  · rw [fTake_0 c5 z]; exact hb
  · rw [fTake_s c5 c4 (by omega)]
    have hsx : pbt (sxt (cN k e) (tks w (cG k e) (cN k e))) i = pbt w j := by rw [sxt_bit _ _ _ hi, hb]
    by_cases c14 : (cFd k e).1 = 14
    · rw [if_pos c14]
      have e3 : e = 3 := by
        have := (tab_cls k hk).1 e
        apply Classical.byContradiction
        intro y
        rcases this (by omega) with x | x | x <;> omega
      subst e3
      have hl := tab_len k hk c14
      have : pbt (I_and (sxt (cN k 3) (tks w (cG k 3) (cN k 3))) 1048575) i = pbt w j := by rw [and20_bit _ _ (by omega), hsx]
      exact this
    · rw [if_neg c14]; exact hsx
/-- a word is made of its parts -/
theorem put_back {k : Nat} (hk : k < 75) {w : Int} (h : pTk k w = true) {j : Nat} (hj : j < 32) (hb : j < pBits k) : pbt (pPut k (pPt k w)) j = pbt w j := by
  unfold pTk at h
  cases hq : pRes k w with
  | none => rw [hq] at h; cases h
  | some q =>
    have hp : pPt k w = pAdj k q := by unfold pPt; rw [hq]
    rw [hp, ← lks_put hk _ j hj]
    have pb' := fun (e : Nat) (he : e < 4) (i : Nat) (hs : sq k e j = some i) => part_bit hk hq he hs
    have u : ∀ e : Nat, lks k (pAdj k q) (e + 1) j = match sq k e j with | none => lks k (pAdj k q) e j | some i => pbt (if (cFd k e).1 = 5 then p4g (pAdj k q) e - 8 else p4g (pAdj k q) e) i := fun e =>
      lk_src (cG k e) (if (cFd k e).1 = 5 then p4g (pAdj k q) e - 8 else p4g (pAdj k q) e) (lks k (pAdj k q) e) j (cN k e)
    have step : ∀ e : Nat, e < 4 → (lks k (pAdj k q) e j = pbt w j ∨ sq k e j ≠ none) → lks k (pAdj k q) (e + 1) j = pbt w j := by
      intro e he hh
      rw [u e]
      cases hs : sq k e j with
      | none =>
        rcases hh with hh | hh
        · exact hh
        · exact absurd hs hh
      | some i => exact pb' e he i hs
    by_cases n3 : sq k 3 j = none
    · refine step 3 (by omega) (.inl ?_)
      by_cases n2 : sq k 2 j = none
      · refine step 2 (by omega) (.inl ?_)
        by_cases n1 : sq k 1 j = none
        · refine step 1 (by omega) (.inl ?_)
          by_cases n0 : sq k 0 j = none
          · refine step 0 (by omega) (.inl ?_)
            have ht := tab_S
            simp only [List.all_eq_true, List.mem_range] at ht
            have ht := ht k hk j hj
            unfold tabS at ht
            rw [n3, n2, n1, n0] at ht
            simp only [Bool.or_eq_true, Bool.not_eq_true', decide_eq_false_iff_not, decide_eq_true_eq] at ht
            have hr : pRow (32 * k + j) < 2 := by
              rcases ht with z | z
              · exact absurd hb z
              · exact z
            obtain ⟨m1, m2⟩ := tab_mask k hk j hj
            have hf := (pRes_fix hk w).mp (by rw [hq]; intro z; cases z) j hb hr
            show pbt (cKd k).2.1 j = _
            rw [m2, if_pos ⟨hb, hr⟩, hf]
          · exact step 0 (by omega) (.inr n0)
        · exact step 1 (by omega) (.inr n1)
      · exact step 2 (by omega) (.inr n2)
    · exact step 3 (by omega) (.inr n3)
theorem put_back_w {w r : Int} (hw : -2147483648 ≤ w ∧ w ≤ 2147483647) (hr : isKd w r) (h0 : ¬ r = -1) : pPut r.toNat (pPt r.toNat w) = pWh w := by
  obtain ⟨r0, r1, r2, r3, r4⟩ := isKd_t hr h0
  have hb := pWh_b hw
  refine word_ext (pPut_in _ _) ⟨hb.1, hb.2.1⟩ fun j hj => ?_
  by_cases c : w % 4 = 3
  · have hp : pBits r.toNat = 32 := by unfold pBits; rw [if_pos (by have := r3 c; omega)]
    rw [put_back (by omega) r2 hj (by omega)]
    unfold pWh; rw [if_pos c]
  · have hp : pBits r.toNat = 16 := by unfold pBits; rw [if_neg (by have := r4 c; omega)]
    obtain ⟨q1, q2⟩ := pTk_wh c (k := r.toNat) (by omega) (by have := r4 c; omega)
    have hpw : pWh w = w % 65536 := by unfold pWh; rw [if_neg c]
    rw [hpw, q2]
    by_cases d : j < 16
    · exact put_back (by omega) (by rw [← q1]; exact r2) hj (by omega)
    · rw [pPut_hi _ _ (by omega) hj]
      have := hb.2.2 c
      exact (bt_big _ j 16 (by omega) (by rw [show (2 : Int) ^ 16 = 65536 from rfl]; omega) (by omega)).symm
/-- whether a kind may have an immediate -/
theorem c_may (h : pWA s W) (k v : Int) : ((0 ≤ k ∧ k < 75 ∧ pHas k.toNat 3 = true ∧ pImm k.toNat v = true) → m_X2_may s W k v = some 1) ∧ (¬ (0 ≤ k ∧ k < 75 ∧ pHas k.toNat 3 = true ∧ pImm k.toNat v = true) → m_X2_may s W k v = some 0) := by
  rw [em_X2_may]; unfold dm_X2_may
  rw [e_X2_isKind, Option.bind_some]
  by_cases c : 0 ≤ k ∧ k < 75
  · obtain ⟨e1, e2⟩ := h.at c.1 c.2
    rw [if_pos (show ¬ k < 0 ∧ k < 75 by omega), if_neg (by omega), e1, Option.bind_some, jrd_in e2.1.1 (show jK s _ = 11 from e2.1.2.2.1)]
    simp only [Option.bind_some]
    have hfl : jld s 1007 (jf s 11 (jf s 1008 (W + 23) k) 5) 3 = some (jf s 1007 (jf s 11 (jf s 1008 (W + 23) k) 5) 3) := e2.fld (e := 3) (by omega)
    have hrd : jrd s 11 (jf s 1008 (W + 23) k) 5 = some (jf s 11 (jf s 1008 (W + 23) k) 5) := jrd_in e2.1.1 (show jK s _ = 11 from e2.1.2.2.1)
    simp only [hrd, hfl, Option.bind_some, Wz_0, Wz_1]
    obtain ⟨f1, f2⟩ := e2.2.2.2.2.2.2.2.2.1 3 (by omega)
    have hh := tab_has k.toNat (by omega) 3 (by omega)
    by_cases d : (cFd k.toNat 3).1 = 0
    · have f1 : jf s 1007 (jf s 11 (jf s 1008 (W + 23) k) 5) 3 = -1 := f1 d
      rw [d] at hh
      rw [f1, if_pos (by omega)]
      exact ⟨fun q => by rw [hh] at q; simp at q, fun _ => rfl⟩
    · have hf := f2 d
      have hf : pFA s (jf s 1007 (jf s 11 (jf s 1008 (W + 23) k) 5) 3) (cFd k.toNat 3) := hf
      rw [if_neg (by have := hf.1; omega)]
      obtain ⟨m1, m2⟩ := f_may hf (wf_of (by omega) (by omega) d) v
      have him := fimm_k v k.toNat (by omega) d
      have hh' : pHas k.toNat 3 = true := by rw [hh]; simp [d]
      by_cases g : pImm k.toNat v = true
      · rw [m1 (him.mpr g), Option.bind_some, if_neg (by omega)]
        exact ⟨fun _ => rfl, fun q => absurd ⟨c.1, c.2, hh', g⟩ q⟩
      · rw [m2 (fun z => g (him.mp z)), Option.bind_some, if_pos rfl]
        exact ⟨fun q => absurd q.2.2.2 g, fun _ => rfl⟩
  · rw [if_neg (show ¬ (¬ k < 0 ∧ k < 75) by omega), if_pos rfl, Wz_0]
    exact ⟨fun q => absurd ⟨q.1, q.2.1⟩ c, fun _ => rfl⟩
theorem t_may (hR : pRows t (V + 1)) (k v : Int) : ((0 ≤ k ∧ k < 75 ∧ pHas k.toNat 3 = true ∧ pImm k.toNat v = true) → m_X38_may t V k v = some (jp t 42 V 0 0, 1)) ∧ (¬ (0 ≤ k ∧ k < 75 ∧ pHas k.toNat 3 = true ∧ pImm k.toNat v = true) → m_X38_may t V k v = some (jp t 42 V 0 0, 0)) := by
  rw [em_X38_may]; unfold dm_X38_may
  simp only [jls, e_X38_isKind, Option.bind_some, Wz_0, Wz_1]
  have hR0 : pRows (jp t 42 V 0 0) (V + 1) := fun j a b => by rw [jf_jp, if_neg (by omega)]; exact hR j a b
  by_cases c : 0 ≤ k ∧ k < 75
  · rw [if_pos (show ¬ k < 0 ∧ k < 75 by omega), if_neg (by omega), s_X38_has _ _ _ _ hR0 c.1 c.2 (by omega) (by omega), Option.bind_some]
    have e3 : (3 : Int).toNat = 3 := rfl
    rw [e3]
    by_cases d : pHas k.toNat 3 = true
    · rw [if_pos d, if_neg (by omega), e_X38_isImmediate, Option.bind_some]
      have ek : ((k.toNat : Nat) : Int) = k := Int.toNat_of_nonneg c.1
      have hI : pImm k.toNat v = decide (v_X38_isImmediate k v = 1) := by
        show decide (v_X43_isImmediate (k.toNat : Int) v = 1) = _
        rw [ek]; rfl
      have h01 : v_X38_isImmediate k v = 0 ∨ v_X38_isImmediate k v = 1 := vImm_01 k v
      by_cases g : v_X38_isImmediate k v = 1
      · rw [if_neg (by omega)]
        have : pImm k.toNat v = true := by rw [hI]; exact decide_eq_true g
        exact ⟨fun _ => rfl, fun q => absurd ⟨c.1, c.2, d, this⟩ q⟩
      · rw [if_pos (by omega)]
        have : ¬ pImm k.toNat v = true := by rw [hI, decide_eq_true_eq]; exact g
        exact ⟨fun q => absurd q.2.2.2 this, fun _ => rfl⟩
    · rw [if_neg d, if_pos rfl]
      exact ⟨fun q => absurd q.2.2.1 d, fun _ => rfl⟩
  · rw [if_neg (show ¬ (¬ k < 0 ∧ k < 75) by omega), if_pos rfl]
    exact ⟨fun q => absurd ⟨q.1, q.2.1⟩ c, fun _ => rfl⟩
/-- an immediate put into a word: the component -/
theorem c_fit (h : pWA s W) {w v r : Int} (hw : -2147483648 ≤ w ∧ w ≤ 2147483647) (hr : isKd w r) :
    (¬ (¬ r = -1 ∧ pHas r.toNat 3 = true ∧ pImm r.toNat v = true) → m_X2_fit s W w v = (jnx s 2054).bind fun q1 => jck0 q1.2 (some (q1.1, true, q1.2))) ∧
    (¬ r = -1 ∧ pHas r.toNat 3 = true ∧ pImm r.toNat v = true → m_X2_fit s W w v = some (s, false, pPut r.toNat (p4s (pPt r.toNat w) 3 (L2i v)))) := by
  obtain ⟨r', e1, h1⟩ := c_kind h hw
  have := isKd_one h1 hr
  subst this
  have hb := pWh_b hw
  rw [em_X2_fit]; unfold dm_X2_fit
  rw [e1, Option.bind_some, eu_X2_fit_23]; unfold du_X2_fit_23
  obtain ⟨m1, m2⟩ := c_may h r' v
  by_cases c : r' = -1
  · rw [if_pos c]
    exact ⟨fun _ => rfl, fun q => absurd c q.1⟩
  rw [if_neg c]
  obtain ⟨r0, r1, r2, r3, r4⟩ := isKd_t hr c
  by_cases g : pHas r'.toNat 3 = true ∧ pImm r'.toNat v = true
  · obtain ⟨a1, a2⟩ := h.at r0 r1
    rw [m1 ⟨r0, r1, g.1, g.2⟩, Option.bind_some, if_neg (by omega), a1, Option.bind_some, s_X2_whole, Option.bind_some, jct_in a2.t]
    refine ⟨fun q => absurd ⟨c, g.1, g.2⟩ q, fun _ => ?_⟩
    have hc3 : ¬ (cFd r'.toNat 3).1 = 0 := by
      intro z
      have := tab_has r'.toNat (by omega) 3 (by omega)
      rw [z] at this
      rw [this] at g
      exact absurd g.1 (by decide)
    have t2 := (tab_cls r'.toNat (by omega)).2.1
    have n5 : ¬ (cFd r'.toNat 3).1 = 5 := by omega
    obtain ⟨x, p1, p2, p3⟩ := s_X7_put a2 (by omega) (e := 3) (by omega) (w := pWh w) (v := L2i v) ⟨hb.1, hb.2.1⟩ (fun _ => by unfold fPv; rw [if_neg (by omega), if_neg n5]; exact L2i_b v)
    rw [show m_X7_put s (jf s 1008 (W + 23) r') (pWh w) 3 (L2i v) = some x from p1, Option.bind_some]
    have : x = pPut r'.toNat (p4s (pPt r'.toNat w) 3 (L2i v)) := by
      refine word_ext p2 (pPut_in _ _) fun j hj => ?_
      rw [p3 j hj, if_neg n5, ← lks_put (by omega) _ j hj]
      have u : ∀ p : jP4, lks r'.toNat p 4 j = lk (cG r'.toNat 3) (p4g p 3) (lks r'.toNat p 3) (cN r'.toNat 3) j := fun p => by
        show lk (cG r'.toNat 3) (if (cFd r'.toNat 3).1 = 5 then p4g p 3 - 8 else p4g p 3) (lks r'.toNat p 3) (cN r'.toNat 3) j = _
        rw [if_neg n5]
      rw [u, show p4g (p4s (pPt r'.toNat w) 3 (L2i v)) 3 = L2i v from rfl, lk_src, lk_src]
      cases hs : skq (cG r'.toNat 3) j (cN r'.toNat 3) with
      | some i => rfl
      | none =>
        show pbt (pWh w) j = lks r'.toNat (p4s (pPt r'.toNat w) 3 (L2i v)) 3 j
        have e3 : lks r'.toNat (p4s (pPt r'.toNat w) 3 (L2i v)) 3 j = lks r'.toNat (pPt r'.toNat w) 3 j := rfl
        have e4 : lks r'.toNat (pPt r'.toNat w) 4 j = lks r'.toNat (pPt r'.toNat w) 3 j := by
          rw [u, lk_src, hs]
        rw [e3, ← e4, lks_put (by omega) _ j hj, put_back_w hw hr c]
    rw [this]
  · rw [m2 (fun q => g q.2.2), Option.bind_some, if_pos rfl]
    exact ⟨fun _ => rfl, fun q => absurd q.2 g⟩
/-- the same: the twin -/
theorem t_fit (hR : pRows t (V + 1)) {w v r : Int} (hw : -2147483648 ≤ w ∧ w ≤ 2147483647) (hr : isKd w r) (hv : -2147483640 ≤ L2i v ∧ ∀ e, e < 4 → -2147483640 ≤ p4g (pPt r.toNat w) e ∧ p4g (pPt r.toNat w) e ≤ 2147483647) :
    (¬ (¬ r = -1 ∧ pHas r.toNat 3 = true ∧ pImm r.toNat v = true) → ∃ q, m_X38_fit t V w v = some (jp (pw4 t (V + 2) q) 42 V 0 1, 0)) ∧
    (¬ r = -1 ∧ pHas r.toNat 3 = true ∧ pImm r.toNat v = true → ∃ q, m_X38_fit t V w v = some (pw4 (jp t 42 V 0 0) (V + 2) q, pPut r.toNat (p4s (pPt r.toNat w) 3 (L2i v)))) := by
  obtain ⟨q, r', e1, h1, h2⟩ := t_find hR hw
  have := isKd_one h1 hr
  subst this
  rw [em_X38_fit]; unfold dm_X38_fit
  rw [e1, Option.bind_some]
  simp only [eu_X38_fit_37, du_X38_fit_37, eu_X38_fit_38, du_X38_fit_38, jls]
  have j0 : ∀ (u : jS) (v : Int), jf (jp u 42 V 0 v) 42 V 0 = v := fun u v => by rw [jf_jp, if_pos ⟨rfl, rfl, rfl⟩]
  simp only [j0]
  have hR' : pRows (pw4 t (V + 2) q) (V + 1) := pRows_pw4 hR (by omega)
  by_cases c : r' = -1
  · rw [if_pos c, if_neg (by omega)]
    exact ⟨fun _ => ⟨q, rfl⟩, fun q => absurd c q.1⟩
  rw [if_neg c]
  obtain ⟨r0, r1, r2, r3, r4⟩ := isKd_t hr c
  rw [s_X38_has _ _ _ _ hR' r0 r1 (by omega) (by omega), Option.bind_some]
  have e3 : (3 : Int).toNat = 3 := rfl
  rw [e3]
  by_cases d : pHas r'.toNat 3 = true
  · rw [if_pos d, if_neg (by omega), e_X38_isImmediate, Option.bind_some]
    have ek : ((r'.toNat : Nat) : Int) = r' := Int.toNat_of_nonneg r0
    have hI : pImm r'.toNat v = decide (v_X38_isImmediate r' v = 1) := by
      show decide (v_X43_isImmediate (r'.toNat : Int) v = 1) = _
      rw [ek]; rfl
    have h01 : v_X38_isImmediate r' v = 0 ∨ v_X38_isImmediate r' v = 1 := vImm_01 r' v
    by_cases g : v_X38_isImmediate r' v = 1
    · have hg : pImm r'.toNat v = true := by rw [hI]; exact decide_eq_true g
      rw [if_neg (by omega), if_pos trivial, jst_in (by omega) (by omega), Option.bind_some]
      refine ⟨fun z => absurd ⟨c, d, hg⟩ z, fun _ => ⟨p4s q 3 (L2i v), ?_⟩⟩
      rw [jp_pw4 _ _ _ _ _ _ _ (by decide), pw4_put _ _ _ _ (by omega) (by omega), e3]
      rw [s_X38_put _ _ _ _ (by
        intro j a b
        rw [jf_jp, if_neg (by omega)]; exact hR j a b) r0 r1 (by
        intro e he
        rw [h2 c]
        by_cases z : e = 3
        · subst z
          rw [p4_gs _ _ _ (by omega)]
          exact ⟨hv.1, (L2i_b v).2⟩
        · rw [p4_gs_ne _ _ _ _ (by omega) he z]; exact hv.2 e he), Option.bind_some, h2 c]
    · have hg : ¬ pImm r'.toNat v = true := by rw [hI, decide_eq_true_eq]; exact g
      rw [if_pos (by omega), if_neg (by omega)]
      exact ⟨fun _ => ⟨q, rfl⟩, fun z => absurd z.2.2 hg⟩
  · rw [if_neg d, if_pos rfl, if_neg (by omega)]
    exact ⟨fun _ => ⟨q, rfl⟩, fun z => absurd z.2.1 d⟩
end jWords6
