/-! the component's kinds at work -/
section jWords3
variable {s : jS} {K : Int} {k : Nat}
/-- a kind's object -/
def pKA (s : jS) (K : Int) (k : Nat) : Prop := jTz s 27 K ∧ jf s 11 K 1 = (cKd k).1 ∧ jf s 11 K 2 = (cKd k).2.1 ∧ jf s 11 K 3 = (cKd k).2.2.1 ∧ jf s 11 K 4 = (cKd k).2.2.2 ∧ 0 ≤ jf s 11 K 5 ∧ jK s (jf s 11 K 5) = 1007 ∧ jN s (jf s 11 K 5) = 4 ∧ (∀ e : Nat, e < 4 → ((cFd k e).1 = 0 → jf s 1007 (jf s 11 K 5) e = -1) ∧ (¬ (cFd k e).1 = 0 → pFA s (jf s 1007 (jf s 11 K 5) e) (cFd k e))) ∧
  (48 ≤ k → 0 ≤ jf s 11 K 6 ∧ jK s (jf s 11 K 6) = 13 ∧ jf s 13 (jf s 11 K 6) 0 = (cSd k).1 ∧ jf s 13 (jf s 11 K 6) 1 = (cSd k).2.1 ∧ jf s 13 (jf s 11 K 6) 2 = (cSd k).2.2.1 ∧ jf s 13 (jf s 11 K 6) 3 = (cSd k).2.2.2)
theorem pKA.t (h : pKA s K k) : jTt s 27 K := (jTt_pl rfl rfl).mpr h.1
theorem pKA.fld (h : pKA s K k) {e : Nat} (he : e < 4) : jld s 1007 (jf s 11 K 5) (e : Int) = some (jf s 1007 (jf s 11 K 5) e) := by
  unfold jld
  rw [if_pos ⟨h.2.2.2.2.2.1, h.2.2.2.2.2.2.1, by omega, by rw [h.2.2.2.2.2.2.2.1]; omega⟩]
theorem wf_of (hk : k < 75) {e : Nat} (he : e < 4) (h0 : ¬ (cFd k e).1 = 0) : fWf (cFd k e) = true := by
  rcases tab_wf k hk e he with c | c
  · exact absurd c h0
  · exact c
theorem s_X7_part (h : pKA s K k) (hk : k < 75) {e : Nat} (he : e < 4) {w : Int} (hw : -2147483648 ≤ w ∧ w ≤ 2147483647) : m_X7_part s K w e = some (if (cFd k e).1 = 0 then 0 else fTake (cFd k e) w) := by
  rw [em_X7_part]; unfold dm_X7_part
  rw [h.fld he]
  simp only [Option.bind_some]
  obtain ⟨f1, f2⟩ := h.2.2.2.2.2.2.2.2.1 e he
  by_cases c : (cFd k e).1 = 0
  · rw [f1 c, if_pos (by omega), if_pos c]
  · have hf := f2 c
    rw [if_neg (by have := hf.1; omega), if_neg c, f_take hf (wf_of hk he c) hw, Option.bind_some]
theorem s_X7_may (h : pKA s K k) (hk : k < 75) {e : Nat} (he : e < 4) (v : Int) : (((cFd k e).1 = 0 ∨ fMay (cFd k e) v) → m_X7_may s K e v = some 1) ∧ (¬ ((cFd k e).1 = 0 ∨ fMay (cFd k e) v) → m_X7_may s K e v = some 0) := by
  rw [em_X7_may]; unfold dm_X7_may
  rw [h.fld he]
  simp only [Option.bind_some, Wz_0, Wz_1]
  obtain ⟨f1, f2⟩ := h.2.2.2.2.2.2.2.2.1 e he
  by_cases c : (cFd k e).1 = 0
  · rw [f1 c, if_pos (by omega)]
    exact ⟨fun _ => rfl, fun q => absurd (.inl c) q⟩
  · have hf := f2 c
    rw [if_neg (by have := hf.1; omega)]
    obtain ⟨m1, m2⟩ := f_may hf (wf_of hk he c) v
    by_cases d : fMay (cFd k e) v
    · rw [m1 d, Option.bind_some, if_neg (by omega)]
      exact ⟨fun _ => rfl, fun q => absurd (.inr d) q⟩
    · rw [m2 d, Option.bind_some, if_pos rfl]
      exact ⟨fun q => by rcases q with q | q; exact absurd q c; exact absurd q d, fun _ => rfl⟩
/-- good parts, by the component's fields -/
def cGood (k : Nat) (p : jP4) : Prop := ∀ e : Nat, e < 4 → (cFd k e).1 = 0 ∨ fMay (cFd k e) (p4g p e)
theorem good_iff (hk : k < 75) (p : jP4) : pGood k p = true ↔ cGood k p := by
  have key : ∀ e : Nat, e < 4 → ((!pHas k e || (if e = 3 then pImm k (p4g p e) else pReg k e (p4g p e))) = true ↔ ((cFd k e).1 = 0 ∨ fMay (cFd k e) (p4g p e))) := by
    intro e he
    rw [tab_has k hk e he]
    by_cases c : (cFd k e).1 = 0
    · simp [c]
    · have : decide ((cFd k e).1 = 0) = false := decide_eq_false c
      rw [this]
      simp only [Bool.not_false, Bool.not_true, Bool.false_or]
      by_cases e3 : e = 3
      · subst e3
        rw [if_pos rfl, ← fimm_k _ k hk c]
        exact ⟨.inr, fun q => by rcases q with q | q; exact absurd q c; exact q⟩
      · rw [if_neg e3, ← freg_k hk (by omega) c]
        exact ⟨.inr, fun q => by rcases q with q | q; exact absurd q c; exact q⟩
  have k0 := key 0 (by omega)
  have k1 := key 1 (by omega)
  have k2 := key 2 (by omega)
  have k3 := key 3 (by omega)
  simp only [show ((0 : Nat) = 3) = False by simp, show ((1 : Nat) = 3) = False by simp, show ((2 : Nat) = 3) = False by simp, if_false, if_true] at k0 k1 k2 k3
  unfold pGood cGood
  rw [Bool.and_eq_true, Bool.and_eq_true, Bool.and_eq_true, k0, k1, k2, k3]
  constructor
  · rintro ⟨⟨⟨a, b⟩, c⟩, d⟩ e he
    have : e = 0 ∨ e = 1 ∨ e = 2 ∨ e = 3 := by omega
    rcases this with rfl | rfl | rfl | rfl
    · exact a
    · exact b
    · exact c
    · exact d
  · intro q
    exact ⟨⟨⟨q 0 (by omega), q 1 (by omega)⟩, q 2 (by omega)⟩, q 3 (by omega)⟩
theorem s_X7_is (h : pKA s K k) (hk : k < 75) {w : Int} (hw : -2147483648 ≤ w ∧ w ≤ 2147483647) : m_X7_is s K w = some (if pTk k w = true then 1 else 0) := by
  rw [em_X7_is]; unfold dm_X7_is
  rw [h.2.2.2.1, h.2.2.1]
  have hm := mask_is hk hw
  cases hr : pRes k w with
  | none =>
    rw [if_neg (fun q => (hm.mp q) hr), Wz_0]
    have hT : pTk k w = false := by unfold pTk; rw [hr]
    rw [hT]; rfl
  | some q =>
    rw [if_pos (hm.mpr (by rw [hr]; intro z; cases z)), eu_X7_is_19, du_X7_is_19]
    have hT : pTk k w = pGood k (pAdj k q) := by unfold pTk; rw [hr]
    rw [hT]
    have hG := good_iff hk (pAdj k q)
    have h0 : ∀ e : Int, 0 ≤ e → jlpR (jc4 b_X7_is_19) [K, w, 0, e] s = some 0 := by
      intro e e0
      apply jlpR_r
      show b_X7_is_19 s K w 0 e = _
      unfold b_X7_is_19
      rw [Wz_0, if_pos rfl]
      by_cases c : e < 4
      · rw [if_pos c]
      · rw [if_neg c]
    have val : ∀ e : Nat, e < 4 → ¬ (cFd k e).1 = 0 → fTake (cFd k e) w = p4g (pAdj k q) e := fun e he c => by rw [take_adj hk hr he, if_neg c]
    have h1 : ∀ (m e : Nat), e + m = 4 → ((∀ i, e ≤ i → i < 4 → (cFd k i).1 = 0 ∨ fMay (cFd k i) (p4g (pAdj k q) i)) → jlpR (jc4 b_X7_is_19) [K, w, 1, (e : Int)] s = some 1) ∧ (¬ (∀ i, e ≤ i → i < 4 → (cFd k i).1 = 0 ∨ fMay (cFd k i) (p4g (pAdj k q) i)) → jlpR (jc4 b_X7_is_19) [K, w, 1, (e : Int)] s = some 0) := by
      intro m
      induction m with
      | zero =>
        intro e he
        refine ⟨fun _ => ?_, fun q => absurd (fun i i0 i1 => by omega) q⟩
        apply jlpR_r
        show b_X7_is_19 s K w 1 e = _
        unfold b_X7_is_19
        rw [if_neg (by omega), Wz_1]
      | succ m ih =>
        intro e he
        obtain ⟨i1, i2⟩ := ih (e + 1) (by omega)
        have e4 : e < 4 := by omega
        obtain ⟨f1, f2⟩ := h.2.2.2.2.2.2.2.2.1 e e4
        have wi : W32 ((e : Int) + 1) = ((e + 1 : Nat) : Int) := by rw [W32_in (by omega) (by omega)]; omega
        by_cases g : (cFd k e).1 = 0 ∨ fMay (cFd k e) (p4g (pAdj k q) e)
        · have st : jlpR (jc4 b_X7_is_19) [K, w, 1, (e : Int)] s = jlpR (jc4 b_X7_is_19) [K, w, 1, ((e + 1 : Nat) : Int)] s := by
            apply jlpR_l
            show b_X7_is_19 s K w 1 e = _
            unfold b_X7_is_19
            simp only [eu_X7_is_60, du_X7_is_60, eu_X7_is_65, du_X7_is_65, wi]
            rw [if_pos (by omega), if_neg (by omega), h.fld e4, Option.bind_some]
            by_cases c : (cFd k e).1 = 0
            · rw [f1 c, if_pos (by omega)]
            · have hf := f2 c
              have hg : fMay (cFd k e) (p4g (pAdj k q) e) := by
                rcases g with g | g
                · exact absurd g c
                · exact g
              rw [if_neg (by have := hf.1; omega), Option.bind_some, Option.bind_some, f_take hf (wf_of hk e4 c) hw, Option.bind_some, val e e4 c, (f_may hf (wf_of hk e4 c) _).1 hg, Option.bind_some, if_neg (by omega)]
          rw [st]
          refine ⟨fun q => i1 fun i a b => q i (by omega) b, fun q => i2 fun z => q fun i a b => ?_⟩
          by_cases d : i = e
          · subst d; exact g
          · exact z i (by omega) b
        · have c : ¬ (cFd k e).1 = 0 := fun z => g (.inl z)
          have hf := f2 c
          have st : jlpR (jc4 b_X7_is_19) [K, w, 1, (e : Int)] s = jlpR (jc4 b_X7_is_19) [K, w, 0, ((e + 1 : Nat) : Int)] s := by
            apply jlpR_l
            show b_X7_is_19 s K w 1 e = _
            unfold b_X7_is_19
            simp only [eu_X7_is_60, du_X7_is_60, eu_X7_is_65, du_X7_is_65, wi]
            rw [if_pos (by omega), if_neg (by omega), h.fld e4, Option.bind_some, if_neg (by have := hf.1; omega), Option.bind_some, Option.bind_some, f_take hf (wf_of hk e4 c) hw, Option.bind_some, val e e4 c, (f_may hf (wf_of hk e4 c) _).2 (fun z => g (.inr z)), Option.bind_some, if_pos rfl]
          rw [st, h0 _ (by omega)]
          exact ⟨fun q => absurd (q e (by omega) e4) g, fun _ => rfl⟩
    obtain ⟨j1, j2⟩ := h1 4 0 rfl
    by_cases c : pGood k (pAdj k q) = true
    · rw [if_pos c]
      exact j1 fun i _ i4 => hG.mp c i i4
    · rw [if_neg c]
      exact j2 fun z => c (hG.mpr fun i i4 => z i (by omega) i4)
/-- the words' objects: of the component at W -/
def pWA (s : jS) (W : Int) : Prop := ∀ k : Nat, k < 75 → pKA s (jf s 1008 (W + 23) k) k
theorem pWA.at {W : Int} (h : pWA s W) {i : Int} (h0 : 0 ≤ i) (h1 : i < 75) : jlt s 1008 (W + 23) 75 i = some (jf s 1008 (W + 23) i) ∧ pKA s (jf s 1008 (W + 23) i) i.toNat := by
  have := h i.toNat (by omega)
  rw [Int.toNat_of_nonneg h0] at this
  exact ⟨jlt_in h0 h1, this⟩
/-- what counts of a word -/
def pWh (w : Int) : Int := if w % 4 = 3 then w else w % 65536
theorem s_X2_whole (s : jS) (w : Int) : m_X2_whole s w = some (pWh w) := by
  rw [em_X2_whole]; unfold dm_X2_whole pWh
  rw [I_and_3, I_and_65535]
  split <;> rfl
theorem pWh_b {w : Int} (hw : -2147483648 ≤ w ∧ w ≤ 2147483647) : -2147483648 ≤ pWh w ∧ pWh w ≤ 2147483647 ∧ (¬ w % 4 = 3 → 0 ≤ pWh w ∧ pWh w < 65536) := by
  unfold pWh
  split <;> omega
theorem emod_sl_aux (w : Int) (j : Nat) : w % (2 ^ j * 2 ^ (16 - j)) / 2 ^ j = w / 2 ^ j % 2 ^ (16 - j) := by
  have p := p2_pos j
  have h := Int.emod_add_mul_ediv w (2 ^ j * 2 ^ (16 - j))
  have q := p2_pos (16 - j)
  have e : w = w % (2 ^ j * 2 ^ (16 - j)) + 2 ^ j * (2 ^ (16 - j) * (w / (2 ^ j * 2 ^ (16 - j)))) := by rw [← Int.mul_assoc]; exact h.symm
  have hlt := Int.emod_lt_of_pos w (Int.mul_pos p q)
  have hnn := Int.emod_nonneg w (Int.ne_of_gt (Int.mul_pos p q))
  generalize w % (2 ^ j * 2 ^ (16 - j)) = r at *
  generalize w / (2 ^ j * 2 ^ (16 - j)) = z at *
  rw [e, Int.add_mul_ediv_left _ _ (Int.ne_of_gt p), Int.add_mul_emod_self_left, Int.emod_eq_of_lt]
  · exact Int.ediv_nonneg hnn (Int.le_of_lt p)
  · exact Int.ediv_lt_of_lt_mul p (by rw [Int.mul_comm]; exact hlt)
/-- of a short kind only sixteen bits count -/
theorem pTk_wh {w : Int} (h : ¬ w % 4 = 3) {k : Nat} (hk : k < 75) (h48 : 48 ≤ k) : pTk k w = pTk k (w % 65536) ∧ pPt k w = pPt k (w % 65536) := by
  have hp : pRes k w = pRes k (w % 65536) := by
    rw [pRes_ptk hk, pRes_ptk hk]
    have hb : pBits k = 16 := by unfold pBits; rw [if_neg (by omega)]
    rw [hb]
    have key : ∀ (n j : Nat) (p : jP4), j + n ≤ 16 → ptk (fun j => pRow (32 * k + j)) w n j p = ptk (fun j => pRow (32 * k + j)) (w % 65536) n j p := by
      intro n
      induction n with
      | zero => intro j p _; rfl
      | succ n ih =>
        intro j p hj
        have eb : pbt w j = pbt (w % 65536) j := by
          rw [pbt_sl, pbt_sl]
          unfold pSl
          have h16 : (65536 : Int) = 2 ^ j * 2 ^ (16 - j) := by rw [← Int.pow_add, show j + (16 - j) = 16 by omega]; rfl
          have hd : (2 : Int) ^ (16 - j) = 2 * 2 ^ (15 - j) := by rw [show 16 - j = 15 - j + 1 by omega, Int.pow_succ]; omega
          rw [h16, emod_sl_aux w j]
          rw [hd]
          rw [show (2 : Int) ^ 1 = 2 from rfl]
          rw [Int.emod_emod_of_dvd _ ⟨2 ^ (15 - j), rfl⟩]
        unfold ptk
        rw [← eb, ih _ _ (by omega), ih _ _ (by omega)]
    exact key 16 0 _ (by omega)
  unfold pTk pPt
  rw [hp]
  exact ⟨rfl, rfl⟩
end jWords3
