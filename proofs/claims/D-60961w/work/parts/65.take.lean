/-! words taken apart by rows: printed by gen_rows.py -/
set_option maxRecDepth 100000
section jTake

theorem pRows_pw4 {s : jS} {a u : Int} {p : jP4} (h : pRows s a) (hn : ¬ a = u) : pRows (pw4 s u p) a := by
  intro i h0 h1
  rw [jf_pw4, if_neg (fun q => hn q.2.1)]
  exact h i h0 h1
theorem p4_bd {p : jP4} {c : Nat} {x B : Int} (hc : pce c < 4) (h : ∀ e, e < 4 → 0 ≤ p4g p e ∧ p4g p e ≤ B) (hx : 0 ≤ x * 2 ^ (c % 100)) (hx' : x * 2 ^ (c % 100) ≤ 1048576) : ∀ e, e < 4 → 0 ≤ p4g (p4a p c x) e ∧ p4g (p4a p c x) e ≤ B + 1048576 := by
  intro e he
  unfold p4a
  by_cases q : e = pce c
  · subst q
    rw [p4_gs _ _ _ hc]
    have := h _ hc
    omega
  · have : p4g (p4s p (pce c) (p4g p (pce c) + x * 2 ^ (c % 100))) e = p4g p e := by
      generalize pce c = y at *
      unfold p4g p4s
      have hx : e = 0 ∨ e = 1 ∨ e = 2 ∨ e = 3 := by omega
      have hy : y = 0 ∨ y = 1 ∨ y = 2 ∨ y = 3 := by omega
      rcases hx with rfl | rfl | rfl | rfl <;> rcases hy with rfl | rfl | rfl | rfl <;> first | rfl | exact absurd rfl q
    rw [this]
    have := h e he
    omega
theorem sh20 {b : Int} {r : Nat} (hb : 0 ≤ b ∧ b ≤ 1) (hr : r ≤ 20) : 0 ≤ b * 2 ^ r ∧ b * 2 ^ r ≤ 1048576 := by
  have h1 : (2 : Nat) ^ r ≤ 2 ^ 20 := Nat.pow_le_pow_right (by decide) hr
  have h2 : 0 < (2 : Nat) ^ r := Nat.two_pow_pos r
  rw [p2_nat]
  have : b = 0 ∨ b = 1 := by omega
  rcases this with rfl | rfl <;> omega

noncomputable section
def pIni (k : Nat) : jP4 := (if pSho k 0 = true then 8 else 0, if pSho k 1 = true then 8 else 0, if pSho k 2 = true then 8 else 0, 0)
def pReg (k e : Nat) (r : Int) : Bool := if pSho k e = true then decide (8 ≤ r ∧ r < 16) else decide (0 ≤ r ∧ r ≤ 31 ∧ (k < 48 ∨ k = 74 ∨ ¬ r = 0 ∧ ¬ (k = 56 ∧ r = 2)))
def pImm (k : Nat) (v : Int) : Bool := decide (v_X43_isImmediate (k : Int) v = 1)
def pGood (k : Nat) (p : jP4) : Bool := (!pHas k 0 || pReg k 0 (p4g p 0)) && (!pHas k 1 || pReg k 1 (p4g p 1)) && (!pHas k 2 || pReg k 2 (p4g p 2)) && (!pHas k 3 || pImm k (p4g p 3))
def pSgn (k : Nat) : Int := v_X43_signOf (k : Int)
def pAdv (k : Nat) (v : Int) : Int := if pSgn k < 0 then v else I_shr (I_shl v (31 - pSgn k)) (31 - pSgn k)
def pAdj (k : Nat) (p : jP4) : jP4 := (p.1, p.2.1, p.2.2.1, if k = 56 then I_and (pAdv k p.2.2.2) 1048575 else pAdv k p.2.2.2)
def pRes (k : Nat) (w : Int) : Option jP4 := prn (pKr k) w 0 (pIni k)
def pTk (k : Nat) (w : Int) : Bool := match pRes k w with
  | none => false
  | some p => pGood k (pAdj k p)
def pPt (k : Nat) (w : Int) : jP4 := match pRes k w with
  | none => (0, 0, 0, 0)
  | some p => pAdj k p
end
theorem z01_ite {c : Prop} [Decidable c] {a b : Int} (h : a = 0 ∨ a = 1) (h2 : b = 0 ∨ b = 1) : (if c then a else b) = 0 ∨ (if c then a else b) = 1 := by
  split
  · exact h
  · exact h2
theorem vImm_01 (k v : Int) : v_X43_isImmediate k v = 0 ∨ v_X43_isImmediate k v = 1 := by
  unfold v_X43_isImmediate
  repeat' (refine z01_ite ?_ ?_)
  all_goals first | exact .inl rfl | exact .inr rfl
theorem pSgn_lo (k : Nat) : -1 ≤ pSgn k ∧ pSgn k ≤ 20 := by
  unfold pSgn v_X43_signOf
  repeat' split
  all_goals omega
theorem pw4_self (s : jS) (u : Int) : pw4 s u (jf s 1000 u 0, jf s 1000 u 1, jf s 1000 u 2, jf s 1000 u 3) = s := by
  unfold pw4
  rw [jw_ext (h := jf s), jw_self]
  intro c a k
  split
  · rename_i h
    obtain ⟨rfl, rfl, h0, h1⟩ := h
    have : k = 0 ∨ k = 1 ∨ k = 2 ∨ k = 3 := by omega
    rcases this with rfl | rfl | rfl | rfl <;> rfl
  · rfl

theorem s_X43_take_loop (s : jS) (x0 k w : Int) (hR : pRows s (x0 + 1)) (hk : 0 ≤ k) (hk' : k < 75) (hw : -2147483648 ≤ w ∧ w ≤ 2147483647) : ∀ (n : Nat) (j : Int) (p : jP4), 0 ≤ j → j + n = pBits k.toNat → (∀ e, e < 4 → 0 ≤ p4g p e ∧ p4g p e ≤ 8 + j * 1048576) →
    (∃ q, ptk (fun i => pRow (32 * k.toNat + i)) w n j.toNat p = some q ∧ (∀ e, e < 4 → 0 ≤ p4g q e ∧ p4g q e ≤ 8 + 32 * 1048576) ∧ jlpW (jc4 b_X43_take_41) [x0, k, w, j] (pw4 s (x0 + 2) p) = u_X43_take_158 (pw4 s (x0 + 2) q) x0 k) ∨
    (ptk (fun i => pRow (32 * k.toNat + i)) w n j.toNat p = none ∧ ∃ q, jlpW (jc4 b_X43_take_41) [x0, k, w, j] (pw4 s (x0 + 2) p) = some (pw4 s (x0 + 2) q, 0)) := by
  have hb : pBits k.toNat ≤ 32 := by unfold pBits; split <;> omega
  intro n
  induction n with
  | zero =>
    intro j p h0 hj hp
    refine .inl ⟨p, rfl, fun e he => ?_, jlpW_r ?_⟩
    · have := hp e he; omega
    · show b_X43_take_41 (pw4 s (x0 + 2) p) x0 k w j = _
      unfold b_X43_take_41
      simp only [s_X43_bitsOf _ _ hk, Option.bind_some]
      rw [if_neg (by omega)]
  | succ n ih =>
    intro j p h0 hj hp
    have hr : jf (pw4 s (x0 + 2) p) 1000 (x0 + 1) (32 * k + j) = (pRow (32 * k.toNat + j.toNat) : Int) := by
      rw [jf_pw4, if_neg (by omega), hR _ (by omega) (by omega), show (32 * k + j).toNat = 32 * k.toNat + j.toNat by omega]
    have ho := pRow_ok (32 * k.toNat + j.toNat) (by omega)
    have hbt := pbt_01 w j.toNat
    have hstep : ∀ t, jc4 b_X43_take_41 [x0, k, w, j] t = b_X43_take_41 t x0 k w j := fun _ => rfl
    have hP : ptk (fun i => pRow (32 * k.toNat + i)) w (n + 1) j.toNat p = if pRow (32 * k.toNat + j.toNat) < 2 then (if (pRow (32 * k.toNat + j.toNat) : Int) = pbt w j.toNat then ptk (fun i => pRow (32 * k.toNat + i)) w n (j.toNat + 1) p else none) else ptk (fun i => pRow (32 * k.toNat + i)) w n (j.toNat + 1) (p4a p (pRow (32 * k.toNat + j.toNat)) (pbt w j.toNat)) := rfl
    have hbody : b_X43_take_41 (pw4 s (x0 + 2) p) x0 k w j = if pRow (32 * k.toNat + j.toNat) < 2 then (if (pRow (32 * k.toNat + j.toNat) : Int) = pbt w j.toNat then some (.inl (pw4 s (x0 + 2) p, [x0, k, w, j + 1])) else jinr (some (pw4 s (x0 + 2) p, 0))) else some (.inl (pw4 s (x0 + 2) (p4a p (pRow (32 * k.toNat + j.toNat)) (pbt w j.toNat)), [x0, k, w, j + 1])) := by
      unfold b_X43_take_41
      simp (disch := omega) only [s_X43_bitsOf _ _ hk, Option.bind_some, W32_in, jlt_in, hr, jlet, I_shr_bt hw]
      rw [if_pos (by omega)]
      generalize pRow (32 * k.toNat + j.toNat) = r at *
      generalize pbt w j.toNat = b at *
      by_cases c1 : r < 2
      · rw [if_pos c1, if_pos (by omega)]
        by_cases c2 : (r : Int) = b
        · rw [if_pos c2, if_pos c2]
          simp only [em_X43_take, dm_X43_take, eu_X43_take_210, du_X43_take_210, eu_X43_take_189, du_X43_take_189, eu_X43_take_158, du_X43_take_158, eu_X43_take_152, du_X43_take_152, eu_X43_take_121, du_X43_take_121, eu_X43_take_84, du_X43_take_84, eu_X43_take_39, du_X43_take_39, eu_X43_take_32, du_X43_take_32, eu_X43_take_31, du_X43_take_31]
          rw [if_neg (by omega), if_pos (by omega), W32_in (by omega) (by omega)]
        · rw [if_neg c2, if_neg c2, Wz_0]
      · rw [if_neg c1, if_neg (by omega)]
        have ho := ho.resolve_left c1
        have hs := sh20 (b := b) (r := r % 100) hbt ho.2.2.2
        have hsh : I_shl b ((r : Int) % 100) = b * 2 ^ (r % 100) := by
          rw [i_shl_p (by omega) (by omega), show ((r : Int) % 100).toNat = r % 100 by omega]
          exact W32_in (by omega) (by omega)
        have hpe := hp (pce r) ho.2.2.1
        have hst : ∀ e : Int, e = (pce r : Int) → jp (pw4 s (x0 + 2) p) 1000 (x0 + 2) e (W32 (jf (pw4 s (x0 + 2) p) 1000 (x0 + 2) e + I_shl b ((r : Int) % 100))) = pw4 s (x0 + 2) (p4a p r b) := by
          intro e he
          have h4 := ho.2.2.1
          have he' : e.toNat = pce r := by omega
          rw [jf_pw4, if_pos ⟨rfl, rfl, by omega, by omega⟩, hsh, he', W32_in (by omega) (by omega), pw4_put _ _ _ _ (by omega) (by omega), he']
          rfl
        simp only [em_X43_take, dm_X43_take, eu_X43_take_210, du_X43_take_210, eu_X43_take_189, du_X43_take_189, eu_X43_take_158, du_X43_take_158, eu_X43_take_152, du_X43_take_152, eu_X43_take_121, du_X43_take_121, eu_X43_take_84, du_X43_take_84, eu_X43_take_39, du_X43_take_39, eu_X43_take_32, du_X43_take_32, eu_X43_take_31, du_X43_take_31]
        rw [if_pos (by omega : (1 : Int) < r)]
        by_cases c3 : r < 500
        · rw [if_pos (by omega : (r : Int) < 500)]
          simp (disch := omega) only [I_div_n, jdv_in, Option.bind_some, W32_in, jlt_in, I_rem_n, jst_in]
          rw [if_pos (by omega : (r : Int) < 500)]
          rw [hst ((r : Int) / 100 - 1) (by unfold pce; rw [if_pos c3]; omega)]
        · rw [if_neg (by omega : ¬ (r : Int) < 500), if_neg (by omega : ¬ (r : Int) < 500)]
          simp (disch := omega) only [I_div_n, jdv_in, Option.bind_some, W32_in, jlt_in, I_rem_n, jst_in]
          rw [hst ((r : Int) / 100 - 5) (by unfold pce; rw [if_neg c3]; omega)]
    rw [jlpW_st, hstep, hbody, hP]
    by_cases c1 : pRow (32 * k.toNat + j.toNat) < 2
    · rw [if_pos c1, if_pos c1]
      by_cases c2 : (pRow (32 * k.toNat + j.toNat) : Int) = pbt w j.toNat
      · rw [if_pos c2, if_pos c2]
        have := ih (j + 1) p (by omega) (by omega) (fun e he => by have := hp e he; omega)
        rw [show (j + 1).toNat = j.toNat + 1 by omega] at this
        exact this
      · rw [if_neg c2, if_neg c2]
        exact .inr ⟨rfl, p, rfl⟩
    · rw [if_neg c1, if_neg c1]
      have ho := ho.resolve_left c1
      have hs := sh20 (b := pbt w j.toNat) (r := pRow (32 * k.toNat + j.toNat) % 100) hbt ho.2.2.2
      have := ih (j + 1) (p4a p (pRow (32 * k.toNat + j.toNat)) (pbt w j.toNat)) (by omega) (by omega) (fun e he => by
        have := p4_bd ho.2.2.1 hp hs.1 hs.2 e he
        omega)
      rw [show (j + 1).toNat = j.toNat + 1 by omega] at this
      exact this

theorem s_X38_take_loop (s : jS) (x0 k w : Int) (hR : pRows s (x0 + 1)) (hk : 0 ≤ k) (hk' : k < 75) (hw : -2147483648 ≤ w ∧ w ≤ 2147483647) : ∀ (n : Nat) (j : Int) (p : jP4), 0 ≤ j → j + n = pBits k.toNat → (∀ e, e < 4 → 0 ≤ p4g p e ∧ p4g p e ≤ 8 + j * 1048576) →
    (∃ q, ptk (fun i => pRow (32 * k.toNat + i)) w n j.toNat p = some q ∧ (∀ e, e < 4 → 0 ≤ p4g q e ∧ p4g q e ≤ 8 + 32 * 1048576) ∧ jlpW (jc4 b_X38_take_41) [x0, k, w, j] (pw4 s (x0 + 2) p) = u_X38_take_158 (pw4 s (x0 + 2) q) x0 k) ∨
    (ptk (fun i => pRow (32 * k.toNat + i)) w n j.toNat p = none ∧ ∃ q, jlpW (jc4 b_X38_take_41) [x0, k, w, j] (pw4 s (x0 + 2) p) = some (pw4 s (x0 + 2) q, 0)) := by
  have hb : pBits k.toNat ≤ 32 := by unfold pBits; split <;> omega
  intro n
  induction n with
  | zero =>
    intro j p h0 hj hp
    refine .inl ⟨p, rfl, fun e he => ?_, jlpW_r ?_⟩
    · have := hp e he; omega
    · show b_X38_take_41 (pw4 s (x0 + 2) p) x0 k w j = _
      unfold b_X38_take_41
      simp only [s_X38_bitsOf _ _ hk, Option.bind_some]
      rw [if_neg (by omega)]
  | succ n ih =>
    intro j p h0 hj hp
    have hr : jf (pw4 s (x0 + 2) p) 1000 (x0 + 1) (32 * k + j) = (pRow (32 * k.toNat + j.toNat) : Int) := by
      rw [jf_pw4, if_neg (by omega), hR _ (by omega) (by omega), show (32 * k + j).toNat = 32 * k.toNat + j.toNat by omega]
    have ho := pRow_ok (32 * k.toNat + j.toNat) (by omega)
    have hbt := pbt_01 w j.toNat
    have hstep : ∀ t, jc4 b_X38_take_41 [x0, k, w, j] t = b_X38_take_41 t x0 k w j := fun _ => rfl
    have hP : ptk (fun i => pRow (32 * k.toNat + i)) w (n + 1) j.toNat p = if pRow (32 * k.toNat + j.toNat) < 2 then (if (pRow (32 * k.toNat + j.toNat) : Int) = pbt w j.toNat then ptk (fun i => pRow (32 * k.toNat + i)) w n (j.toNat + 1) p else none) else ptk (fun i => pRow (32 * k.toNat + i)) w n (j.toNat + 1) (p4a p (pRow (32 * k.toNat + j.toNat)) (pbt w j.toNat)) := rfl
    have hbody : b_X38_take_41 (pw4 s (x0 + 2) p) x0 k w j = if pRow (32 * k.toNat + j.toNat) < 2 then (if (pRow (32 * k.toNat + j.toNat) : Int) = pbt w j.toNat then some (.inl (pw4 s (x0 + 2) p, [x0, k, w, j + 1])) else jinr (some (pw4 s (x0 + 2) p, 0))) else some (.inl (pw4 s (x0 + 2) (p4a p (pRow (32 * k.toNat + j.toNat)) (pbt w j.toNat)), [x0, k, w, j + 1])) := by
      unfold b_X38_take_41
      simp (disch := omega) only [s_X38_bitsOf _ _ hk, Option.bind_some, W32_in, jlt_in, hr, jlet, I_shr_bt hw]
      rw [if_pos (by omega)]
      generalize pRow (32 * k.toNat + j.toNat) = r at *
      generalize pbt w j.toNat = b at *
      by_cases c1 : r < 2
      · rw [if_pos c1, if_pos (by omega)]
        by_cases c2 : (r : Int) = b
        · rw [if_pos c2, if_pos c2]
          simp only [em_X38_take, dm_X38_take, eu_X38_take_210, du_X38_take_210, eu_X38_take_189, du_X38_take_189, eu_X38_take_158, du_X38_take_158, eu_X38_take_152, du_X38_take_152, eu_X38_take_121, du_X38_take_121, eu_X38_take_84, du_X38_take_84, eu_X38_take_39, du_X38_take_39, eu_X38_take_32, du_X38_take_32, eu_X38_take_31, du_X38_take_31]
          rw [if_neg (by omega), if_pos (by omega), W32_in (by omega) (by omega)]
        · rw [if_neg c2, if_neg c2, Wz_0]
      · rw [if_neg c1, if_neg (by omega)]
        have ho := ho.resolve_left c1
        have hs := sh20 (b := b) (r := r % 100) hbt ho.2.2.2
        have hsh : I_shl b ((r : Int) % 100) = b * 2 ^ (r % 100) := by
          rw [i_shl_p (by omega) (by omega), show ((r : Int) % 100).toNat = r % 100 by omega]
          exact W32_in (by omega) (by omega)
        have hpe := hp (pce r) ho.2.2.1
        have hst : ∀ e : Int, e = (pce r : Int) → jp (pw4 s (x0 + 2) p) 1000 (x0 + 2) e (W32 (jf (pw4 s (x0 + 2) p) 1000 (x0 + 2) e + I_shl b ((r : Int) % 100))) = pw4 s (x0 + 2) (p4a p r b) := by
          intro e he
          have h4 := ho.2.2.1
          have he' : e.toNat = pce r := by omega
          rw [jf_pw4, if_pos ⟨rfl, rfl, by omega, by omega⟩, hsh, he', W32_in (by omega) (by omega), pw4_put _ _ _ _ (by omega) (by omega), he']
          rfl
        simp only [em_X38_take, dm_X38_take, eu_X38_take_210, du_X38_take_210, eu_X38_take_189, du_X38_take_189, eu_X38_take_158, du_X38_take_158, eu_X38_take_152, du_X38_take_152, eu_X38_take_121, du_X38_take_121, eu_X38_take_84, du_X38_take_84, eu_X38_take_39, du_X38_take_39, eu_X38_take_32, du_X38_take_32, eu_X38_take_31, du_X38_take_31]
        rw [if_pos (by omega : (1 : Int) < r)]
        by_cases c3 : r < 500
        · rw [if_pos (by omega : (r : Int) < 500)]
          simp (disch := omega) only [I_div_n, jdv_in, Option.bind_some, W32_in, jlt_in, I_rem_n, jst_in]
          rw [if_pos (by omega : (r : Int) < 500)]
          rw [hst ((r : Int) / 100 - 1) (by unfold pce; rw [if_pos c3]; omega)]
        · rw [if_neg (by omega : ¬ (r : Int) < 500), if_neg (by omega : ¬ (r : Int) < 500)]
          simp (disch := omega) only [I_div_n, jdv_in, Option.bind_some, W32_in, jlt_in, I_rem_n, jst_in]
          rw [hst ((r : Int) / 100 - 5) (by unfold pce; rw [if_neg c3]; omega)]
    rw [jlpW_st, hstep, hbody, hP]
    by_cases c1 : pRow (32 * k.toNat + j.toNat) < 2
    · rw [if_pos c1, if_pos c1]
      by_cases c2 : (pRow (32 * k.toNat + j.toNat) : Int) = pbt w j.toNat
      · rw [if_pos c2, if_pos c2]
        have := ih (j + 1) p (by omega) (by omega) (fun e he => by have := hp e he; omega)
        rw [show (j + 1).toNat = j.toNat + 1 by omega] at this
        exact this
      · rw [if_neg c2, if_neg c2]
        exact .inr ⟨rfl, p, rfl⟩
    · rw [if_neg c1, if_neg c1]
      have ho := ho.resolve_left c1
      have hs := sh20 (b := pbt w j.toNat) (r := pRow (32 * k.toNat + j.toNat) % 100) hbt ho.2.2.2
      have := ih (j + 1) (p4a p (pRow (32 * k.toNat + j.toNat)) (pbt w j.toNat)) (by omega) (by omega) (fun e he => by
        have := p4_bd ho.2.2.1 hp hs.1 hs.2 e he
        omega)
      rw [show (j + 1).toNat = j.toNat + 1 by omega] at this
      exact this

theorem s_X43_isRegister (s : jS) (x0 k e r : Int) (hR : pRows s (x0 + 1)) (h0 : 0 ≤ k) (h1 : k < 75) (h2 : 0 ≤ e) (h3 : e < 4) : m_X43_isRegister s x0 k e r = some (if pReg k.toNat e.toNat r = true then 1 else 0) := by
  rw [em_X43_isRegister]; unfold dm_X43_isRegister
  rw [s_X43_isShortPart s x0 k e hR h0 h1 h2 h3, Option.bind_some]
  unfold pReg
  by_cases c : pSho k.toNat e.toNat = true
  · rw [if_pos c, if_pos c, if_neg (by decide)]
    simp only [decide_eq_true_eq, Wz_0, Wz_1]
    repeat' split
    all_goals first | rfl | omega
  · rw [if_neg c, if_neg c, if_pos rfl]
    simp only [decide_eq_true_eq, Wz_0, Wz_1]
    repeat' split
    all_goals first | rfl | omega
theorem s_X43_areGood (s : jS) (x0 k : Int) (p : jP4) (hR : pRows s (x0 + 1)) (h0 : 0 ≤ k) (h1 : k < 75) : m_X43_areGood (pw4 s (x0 + 2) p) x0 k = some (if pGood k.toNat p = true then 1 else 0) := by
  have hR' : pRows (pw4 s (x0 + 2) p) (x0 + 1) := pRows_pw4 hR (by omega)
  have hg : ∀ e : Int, 0 ≤ e → e < 4 → jf (pw4 s (x0 + 2) p) 1000 (x0 + 2) e = p4g p e.toNat := fun e a b => by rw [jf_pw4, if_pos ⟨rfl, rfl, a, b⟩]
  have ek : ((k.toNat : Nat) : Int) = k := Int.toNat_of_nonneg h0
  rw [em_X43_areGood]; unfold dm_X43_areGood
  rw [eu_X43_areGood_2]; unfold du_X43_areGood_2
  have end_ : u_X43_areGood_39 (pw4 s (x0 + 2) p) x0 k = some (if (!pHas k.toNat 3 || pImm k.toNat (p4g p 3)) = true then 1 else 0) := by
    rw [eu_X43_areGood_39]; unfold du_X43_areGood_39
    rw [s_X43_has _ _ _ _ hR' h0 h1 (by omega) (by omega), Option.bind_some]
    by_cases c : pHas k.toNat (3 : Int).toNat = true
    · rw [if_pos c, if_neg (by decide), jlt_in (by omega) (by omega), Option.bind_some, hg 3 (by omega) (by omega), e_X43_isImmediate, Option.bind_some]
      have c' : pHas k.toNat 3 = true := c
      simp only [c', Bool.not_true, Bool.false_or]
      unfold pImm
      rw [ek]
      simp only [decide_eq_true_eq]
      have h01 := vImm_01 k (p4g p 3)
      show (if v_X43_isImmediate k (p4g p 3) = 0 then some (Wz 0) else some (Wz 1)) = some (if v_X43_isImmediate k (p4g p 3) = 1 then 1 else 0)
      rcases h01 with e | e
      · rw [show v_X43_isImmediate k (p4g p 3) = 0 from e, if_pos rfl, if_neg (by decide), Wz_0]
      · rw [show v_X43_isImmediate k (p4g p 3) = 1 from e, if_neg (by decide), if_pos rfl, Wz_1]
    · rw [if_neg c, if_pos rfl, Wz_1]
      have c' : ¬ pHas k.toNat 3 = true := c
      simp only [Bool.not_eq_true] at c'
      rw [c']
      rfl
  have body : ∀ e : Int, 0 ≤ e → e < 3 → jc3 b_X43_areGood_2 [x0, k, e] (pw4 s (x0 + 2) p) = if pHas k.toNat e.toNat = true ∧ ¬ pReg k.toNat e.toNat (p4g p e.toNat) = true then jinr (some 0) else some (.inl [x0, k, e + 1]) := by
    intro e a b
    show b_X43_areGood_2 (pw4 s (x0 + 2) p) x0 k e = _
    unfold b_X43_areGood_2
    rw [if_pos (by omega), s_X43_has _ _ _ _ hR' h0 h1 a (by omega), Option.bind_some]
    have inl_ : u_X43_areGood_33 (pw4 s (x0 + 2) p) x0 k e = some (.inl [x0, k, e + 1]) := by
      rw [eu_X43_areGood_33]; unfold du_X43_areGood_33; rw [W32_in (by omega) (by omega)]
    by_cases c : pHas k.toNat e.toNat = true
    · rw [if_pos c, if_neg (by decide), jlt_in a (by omega), Option.bind_some, hg e a (by omega), s_X43_isRegister _ _ _ _ _ hR' h0 h1 a (by omega), Option.bind_some]
      by_cases d : pReg k.toNat e.toNat (p4g p e.toNat) = true
      · rw [if_pos d, if_neg (by decide), if_neg (fun q => q.2 d), inl_]
      · rw [if_neg d, if_pos rfl, if_pos ⟨c, d⟩, Wz_0]
    · rw [if_neg c, if_pos rfl, if_neg (fun q => c q.1), inl_]
  rcases jseekR (C := jc3 b_X43_areGood_2) (s := pw4 s (x0 + 2) p) (fun e => [x0, k, e]) (fun e => pHas k.toNat e.toNat = true ∧ ¬ pReg k.toNat e.toNat (p4g p e.toNat) = true) (fun _ => some 0) (u_X43_areGood_39 (pw4 s (x0 + 2) p) x0 k) 0 3 (by omega)
    (fun e a b c => by rw [body e a b, if_neg c]) (fun e a b c => by rw [body e a b, if_pos c])
    (by
      show b_X43_areGood_2 _ x0 k 3 = _
      unfold b_X43_areGood_2
      rw [if_neg (by omega)]) with ⟨e, a1, a2, a3, a4, a5⟩ | ⟨a1, a2⟩
  · rw [a5, if_neg]
    unfold pGood
    intro h
    simp only [Bool.and_eq_true, Bool.or_eq_true, Bool.not_eq_true'] at h
    have : e = 0 ∨ e = 1 ∨ e = 2 := by omega
    rcases this with rfl | rfl | rfl
    · exact a3.2 ((h.1.1.1).resolve_left (by rw [show pHas k.toNat 0 = true from a3.1]; decide))
    · exact a3.2 ((h.1.1.2).resolve_left (by rw [show pHas k.toNat 1 = true from a3.1]; decide))
    · exact a3.2 ((h.1.2).resolve_left (by rw [show pHas k.toNat 2 = true from a3.1]; decide))
  · rw [a2, end_]
    have q : ∀ e : Int, 0 ≤ e → e < 3 → (!pHas k.toNat e.toNat || pReg k.toNat e.toNat (p4g p e.toNat)) = true := by
      intro e a b
      have := a1 e a b
      simp only [Bool.or_eq_true, Bool.not_eq_true']
      by_cases c : pHas k.toNat e.toNat = true
      · exact .inr (Decidable.not_not.mp fun d => this ⟨c, d⟩)
      · exact .inl (by simpa using c)
    unfold pGood
    rw [show (!pHas k.toNat 0 || pReg k.toNat 0 (p4g p 0)) = true from q 0 (by omega) (by omega), show (!pHas k.toNat 1 || pReg k.toNat 1 (p4g p 1)) = true from q 1 (by omega) (by omega), show (!pHas k.toNat 2 || pReg k.toNat 2 (p4g p 2)) = true from q 2 (by omega) (by omega)]
    simp only [Bool.true_and]
theorem s_X43_take (s : jS) (x0 k w : Int) (hR : pRows s (x0 + 1)) (h0 : 0 ≤ k) (h1 : k < 75) (hw : -2147483648 ≤ w ∧ w ≤ 2147483647) : ∃ q, m_X43_take s x0 k w = some (pw4 s (x0 + 2) q, if pTk k.toNat w = true then 1 else 0) ∧ (pTk k.toNat w = true → q = pPt k.toNat w) := by
  rw [em_X43_take]; unfold dm_X43_take
  rw [eu_X43_take_2]; unfold du_X43_take_2
  have ek : ((k.toNat : Nat) : Int) = k := Int.toNat_of_nonneg h0
  have body : ∀ (e e' : Int) (p : jP4), 0 ≤ e → e < 4 → e' = e + 1 → jlpW (jc4 b_X43_take_2) [x0, k, w, e] (pw4 s (x0 + 2) p) = jlpW (jc4 b_X43_take_2) [x0, k, w, e'] (pw4 s (x0 + 2) (p4s p e.toNat (if e < 3 ∧ pSho k.toNat e.toNat = true then 8 else 0))) := by
    intro e e' p a b c
    subst c
    apply jlpW_l
    show b_X43_take_2 (pw4 s (x0 + 2) p) x0 k w e = _
    unfold b_X43_take_2
    rw [if_pos b, s_X43_isShortPart _ _ _ _ (pRows_pw4 hR (by omega)) h0 h1 a b]
    simp (disch := omega) only [Option.bind_some, eu_X43_take_31, du_X43_take_31, eu_X43_take_32, du_X43_take_32, jst_in, W32_in]
    rw [pw4_put _ _ _ _ a b, pw4_put _ _ _ _ a b]
    by_cases c1 : e < 3
    · by_cases c2 : pSho k.toNat e.toNat = true
      · rw [if_pos c1, if_pos c2, if_neg (by decide), if_pos ⟨c1, c2⟩]
      · rw [if_pos c1, if_neg c2, if_pos rfl, if_neg (fun q => c2 q.2)]
    · rw [if_neg c1, if_neg (fun q => c1 q.1)]
  have fin : ∀ p : jP4, jlpW (jc4 b_X43_take_2) [x0, k, w, 4] (pw4 s (x0 + 2) p) = jlpW (jc4 b_X43_take_41) [x0, k, w, 0] (pw4 s (x0 + 2) p) := by
    intro p
    apply jlpW_r
    show b_X43_take_2 (pw4 s (x0 + 2) p) x0 k w 4 = _
    unfold b_X43_take_2
    rw [if_neg (by omega), eu_X43_take_39]; unfold du_X43_take_39
    rw [eu_X43_take_41]; rfl
  have e0 : jlpW (jc4 b_X43_take_2) [x0, k, w, 0] s = jlpW (jc4 b_X43_take_41) [x0, k, w, 0] (pw4 s (x0 + 2) (pIni k.toNat)) := by
    conv => lhs; rw [← pw4_self s (x0 + 2)]
    rw [body 0 1 _ (by omega) (by omega) rfl, body 1 2 _ (by omega) (by omega) rfl, body 2 3 _ (by omega) (by omega) rfl, body 3 4 _ (by omega) (by omega) rfl, fin]
    congr 2
    unfold pIni
    simp
    rfl
  rw [e0]
  have hok := pKr_ok k.toNat (by omega)
  have hb : pBits k.toNat ≤ 32 := by unfold pBits; split <;> omega
  have hrr : ∀ i, i < prs (pKr k.toNat) → (fun i => pRow (32 * k.toNat + i)) (0 + i) = prr (pKr k.toNat) i := by
    intro i hi
    rw [hok.2] at hi
    show pRow (32 * k.toNat + (0 + i)) = _
    unfold pRow
    rw [show (32 * k.toNat + (0 + i)) / 32 = k.toNat by omega, show (32 * k.toNat + (0 + i)) % 32 = i by omega]
  have hpt := ptk_runs (fun i => pRow (32 * k.toNat + i)) w (pKr k.toNat) 0 (pIni k.toNat) hok.1 hrr
  rw [hok.2] at hpt
  have hi : ∀ e, e < 4 → 0 ≤ p4g (pIni k.toNat) e ∧ p4g (pIni k.toNat) e ≤ 8 + (0 : Int) * 1048576 := by
    intro e he
    have : e = 0 ∨ e = 1 ∨ e = 2 ∨ e = 3 := by omega
    unfold pIni
    rcases this with rfl | rfl | rfl | rfl
    · show 0 ≤ (if pSho k.toNat 0 = true then (8 : Int) else 0) ∧ (if pSho k.toNat 0 = true then (8 : Int) else 0) ≤ _
      split <;> omega
    · show 0 ≤ (if pSho k.toNat 1 = true then (8 : Int) else 0) ∧ (if pSho k.toNat 1 = true then (8 : Int) else 0) ≤ _
      split <;> omega
    · show 0 ≤ (if pSho k.toNat 2 = true then (8 : Int) else 0) ∧ (if pSho k.toNat 2 = true then (8 : Int) else 0) ≤ _
      split <;> omega
    · show 0 ≤ (0 : Int) ∧ (0 : Int) ≤ _
      omega
  rcases s_X43_take_loop s x0 k w hR h0 h1 hw (pBits k.toNat) 0 (pIni k.toNat) (by omega) (by omega) hi with ⟨q, q1, q2, q3⟩ | ⟨q1, q, q3⟩
  · rw [q3]
    have hres : pRes k.toNat w = some q := by unfold pRes; rw [← hpt]; exact q1
    have hsg := pSgn_lo k.toNat
    have hq := q2 3 (by omega)
    have hst : ∀ t, t = p4g q 3 → W32 t = t := fun t ht => W32_in (by subst ht; omega) (by subst ht; omega)
    have step1 : u_X43_take_158 (pw4 s (x0 + 2) q) x0 k = u_X43_take_189 (pw4 s (x0 + 2) (q.1, q.2.1, q.2.2.1, pAdv k.toNat q.2.2.2)) x0 k := by
      rw [eu_X43_take_158]; unfold du_X43_take_158
      rw [e_X43_signOf, Option.bind_some]
      have es : v_X43_signOf k = pSgn k.toNat := (congrArg v_X43_signOf ek.symm : _)
      rw [es]
      unfold pAdv
      by_cases c : pSgn k.toNat < 0
      · rw [if_pos c, if_pos c]
      · rw [if_neg c, if_neg c]
        simp (disch := omega) only [jlt_in, jst_in, Option.bind_some, W32_in]
        rw [jf_pw4, if_pos ⟨rfl, rfl, by omega, by omega⟩, pw4_put _ _ _ _ (by omega) (by omega)]
        rfl
    have step2 : ∀ p : jP4, u_X43_take_189 (pw4 s (x0 + 2) p) x0 k = u_X43_take_210 (pw4 s (x0 + 2) (p.1, p.2.1, p.2.2.1, if k.toNat = 56 then I_and p.2.2.2 1048575 else p.2.2.2)) x0 k := by
      intro p
      rw [eu_X43_take_189]; unfold du_X43_take_189
      by_cases c : k = 56
      · rw [if_pos c, if_pos (by omega)]
        simp (disch := omega) only [jlt_in, jst_in, Option.bind_some]
        rw [jf_pw4, if_pos ⟨rfl, rfl, by omega, by omega⟩, pw4_put _ _ _ _ (by omega) (by omega)]
        rfl
      · rw [if_neg c, if_neg (by omega)]
    rw [step1, step2, eu_X43_take_210]; unfold du_X43_take_210
    rw [s_X43_areGood s x0 k _ hR h0 h1, Option.bind_some]
    have hT : pTk k.toNat w = pGood k.toNat (pAdj k.toNat q) := by unfold pTk; rw [hres]
    have hP : pPt k.toNat w = pAdj k.toNat q := by unfold pPt; rw [hres]
    refine ⟨pAdj k.toNat q, ?_, fun _ => hP.symm⟩
    rw [hT]
    show some (pw4 s (x0 + 2) (pAdj k.toNat q), Wz (if pGood k.toNat (pAdj k.toNat q) = true then 1 else 0)) = _
    by_cases c : pGood k.toNat (pAdj k.toNat q) = true
    · rw [if_pos c, Wz_1]
    · rw [if_neg c, Wz_0]
  · have hres : pRes k.toNat w = none := by unfold pRes; rw [← hpt]; exact q1
    have hT : pTk k.toNat w = false := by unfold pTk; rw [hres]
    refine ⟨q, ?_, fun h => by rw [hT] at h; cases h⟩
    rw [q3, hT]; rfl
/-- the first kind of a row of them that has a word -/
theorem s_X43_find (s : jS) (x0 w : Int) (hR : pRows s (x0 + 1)) (hw : -2147483648 ≤ w ∧ w ≤ 2147483647) : ∃ q r, m_X43_find s x0 w = some (pw4 s (x0 + 2) q, r) ∧
    ((0 ≤ r ∧ (if w % 4 = 3 then 0 else 48) ≤ r ∧ r < (if w % 4 = 3 then 48 else 75) ∧ pTk r.toNat w = true ∧ q = pPt r.toNat w ∧ ∀ j : Int, (if w % 4 = 3 then 0 else 48) ≤ j → j < r → ¬ pTk j.toNat w = true) ∨
     (r = -1 ∧ ∀ j : Int, (if w % 4 = 3 then 0 else 48) ≤ j → j < (if w % 4 = 3 then 48 else 75) → ¬ pTk j.toNat w = true)) := by
  have loop : ∀ (n : Nat) (lo hi : Int) (t : jS), (∃ q, t = pw4 s (x0 + 2) q) → 0 ≤ lo → hi ≤ 75 → hi - lo = n → ∃ q r, jlpW (jc4 b_X43_find_32) [x0, w, hi, lo] t = some (pw4 s (x0 + 2) q, r) ∧ ((0 ≤ r ∧ lo ≤ r ∧ r < hi ∧ pTk r.toNat w = true ∧ q = pPt r.toNat w ∧ ∀ j : Int, lo ≤ j → j < r → ¬ pTk j.toNat w = true) ∨ (r = -1 ∧ ∀ j : Int, lo ≤ j → j < hi → ¬ pTk j.toNat w = true)) := by
    intro n
    induction n with
    | zero =>
      rintro lo hi t ⟨q, rfl⟩ a b c
      refine ⟨q, -1, jlpW_r ?_, .inr ⟨rfl, fun j x y => by omega⟩⟩
      show b_X43_find_32 _ x0 w hi lo = _
      unfold b_X43_find_32
      rw [if_neg (by omega)]
    | succ n ih =>
      rintro lo hi t ⟨q, rfl⟩ a b c
      obtain ⟨q1, h1, h2⟩ := s_X43_take (pw4 s (x0 + 2) q) x0 lo w (pRows_pw4 hR (by omega)) a (by omega) hw
      rw [pw4_pw4] at h1
      by_cases d : pTk lo.toNat w = true
      · refine ⟨q1, lo, jlpW_r ?_, .inl ⟨a, Int.le_refl _, by omega, d, h2 d, fun j x y => by omega⟩⟩
        show b_X43_find_32 _ x0 w hi lo = _
        unfold b_X43_find_32
        rw [if_pos (by omega), h1, Option.bind_some, if_pos d, if_neg (by show ¬ (1 : Int) = 0; decide)]
      · obtain ⟨q2, r, h3, h4⟩ := ih (lo + 1) hi (pw4 s (x0 + 2) q1) ⟨q1, rfl⟩ (by omega) b (by omega)
        refine ⟨q2, r, ?_, ?_⟩
        · rw [← h3]
          apply jlpW_l
          show b_X43_find_32 _ x0 w hi lo = _
          unfold b_X43_find_32
          rw [if_pos (by omega), h1, Option.bind_some, if_neg d, if_pos rfl, W32_in (by omega) (by omega)]
        · rcases h4 with ⟨g0, g1, g2, g3, g4, g5⟩ | ⟨g1, g2⟩
          · refine .inl ⟨g0, by omega, g2, g3, g4, fun j x y => ?_⟩
            by_cases e : j = lo
            · subst e; exact d
            · exact g5 j (by omega) y
          · refine .inr ⟨g1, fun j x y => ?_⟩
            by_cases e : j = lo
            · subst e; exact d
            · exact g2 j (by omega) y
  rw [em_X43_find]; unfold dm_X43_find
  simp only [e_X43_isLong, Option.bind_some, I_and_3, eu_X43_find_13, du_X43_find_13, eu_X43_find_28, du_X43_find_28, eu_X43_find_32, du_X43_find_32]
  by_cases c : w % 4 = 3
  · simp only [if_pos c]
    rw [if_neg (by decide), if_neg (by decide)]
    exact loop 48 0 48 s ⟨_, (pw4_self s (x0 + 2)).symm⟩ (by omega) (by omega) rfl
  · simp only [if_neg c]
    rw [if_pos trivial, if_pos trivial]
    exact loop 27 48 75 s ⟨_, (pw4_self s (x0 + 2)).symm⟩ (by omega) (by omega) rfl

theorem s_X38_isRegister (s : jS) (x0 k e r : Int) (hR : pRows s (x0 + 1)) (h0 : 0 ≤ k) (h1 : k < 75) (h2 : 0 ≤ e) (h3 : e < 4) : m_X38_isRegister s x0 k e r = some (if pReg k.toNat e.toNat r = true then 1 else 0) := by
  rw [em_X38_isRegister]; unfold dm_X38_isRegister
  rw [s_X38_isShortPart s x0 k e hR h0 h1 h2 h3, Option.bind_some]
  unfold pReg
  by_cases c : pSho k.toNat e.toNat = true
  · rw [if_pos c, if_pos c, if_neg (by decide)]
    simp only [decide_eq_true_eq, Wz_0, Wz_1]
    repeat' split
    all_goals first | rfl | omega
  · rw [if_neg c, if_neg c, if_pos rfl]
    simp only [decide_eq_true_eq, Wz_0, Wz_1]
    repeat' split
    all_goals first | rfl | omega
theorem s_X38_areGood (s : jS) (x0 k : Int) (p : jP4) (hR : pRows s (x0 + 1)) (h0 : 0 ≤ k) (h1 : k < 75) : m_X38_areGood (pw4 s (x0 + 2) p) x0 k = some (if pGood k.toNat p = true then 1 else 0) := by
  have hR' : pRows (pw4 s (x0 + 2) p) (x0 + 1) := pRows_pw4 hR (by omega)
  have hg : ∀ e : Int, 0 ≤ e → e < 4 → jf (pw4 s (x0 + 2) p) 1000 (x0 + 2) e = p4g p e.toNat := fun e a b => by rw [jf_pw4, if_pos ⟨rfl, rfl, a, b⟩]
  have ek : ((k.toNat : Nat) : Int) = k := Int.toNat_of_nonneg h0
  rw [em_X38_areGood]; unfold dm_X38_areGood
  rw [eu_X38_areGood_2]; unfold du_X38_areGood_2
  have end_ : u_X38_areGood_39 (pw4 s (x0 + 2) p) x0 k = some (if (!pHas k.toNat 3 || pImm k.toNat (p4g p 3)) = true then 1 else 0) := by
    rw [eu_X38_areGood_39]; unfold du_X38_areGood_39
    rw [s_X38_has _ _ _ _ hR' h0 h1 (by omega) (by omega), Option.bind_some]
    by_cases c : pHas k.toNat (3 : Int).toNat = true
    · rw [if_pos c, if_neg (by decide), jlt_in (by omega) (by omega), Option.bind_some, hg 3 (by omega) (by omega), e_X38_isImmediate, Option.bind_some]
      have c' : pHas k.toNat 3 = true := c
      simp only [c', Bool.not_true, Bool.false_or]
      unfold pImm
      rw [ek]
      simp only [decide_eq_true_eq]
      have h01 := vImm_01 k (p4g p 3)
      show (if v_X38_isImmediate k (p4g p 3) = 0 then some (Wz 0) else some (Wz 1)) = some (if v_X38_isImmediate k (p4g p 3) = 1 then 1 else 0)
      rcases h01 with e | e
      · rw [show v_X38_isImmediate k (p4g p 3) = 0 from e, if_pos rfl, if_neg (by decide), Wz_0]
      · rw [show v_X38_isImmediate k (p4g p 3) = 1 from e, if_neg (by decide), if_pos rfl, Wz_1]
    · rw [if_neg c, if_pos rfl, Wz_1]
      have c' : ¬ pHas k.toNat 3 = true := c
      simp only [Bool.not_eq_true] at c'
      rw [c']
      rfl
  have body : ∀ e : Int, 0 ≤ e → e < 3 → jc3 b_X38_areGood_2 [x0, k, e] (pw4 s (x0 + 2) p) = if pHas k.toNat e.toNat = true ∧ ¬ pReg k.toNat e.toNat (p4g p e.toNat) = true then jinr (some 0) else some (.inl [x0, k, e + 1]) := by
    intro e a b
    show b_X38_areGood_2 (pw4 s (x0 + 2) p) x0 k e = _
    unfold b_X38_areGood_2
    rw [if_pos (by omega), s_X38_has _ _ _ _ hR' h0 h1 a (by omega), Option.bind_some]
    have inl_ : u_X38_areGood_33 (pw4 s (x0 + 2) p) x0 k e = some (.inl [x0, k, e + 1]) := by
      rw [eu_X38_areGood_33]; unfold du_X38_areGood_33; rw [W32_in (by omega) (by omega)]
    by_cases c : pHas k.toNat e.toNat = true
    · rw [if_pos c, if_neg (by decide), jlt_in a (by omega), Option.bind_some, hg e a (by omega), s_X38_isRegister _ _ _ _ _ hR' h0 h1 a (by omega), Option.bind_some]
      by_cases d : pReg k.toNat e.toNat (p4g p e.toNat) = true
      · rw [if_pos d, if_neg (by decide), if_neg (fun q => q.2 d), inl_]
      · rw [if_neg d, if_pos rfl, if_pos ⟨c, d⟩, Wz_0]
    · rw [if_neg c, if_pos rfl, if_neg (fun q => c q.1), inl_]
  rcases jseekR (C := jc3 b_X38_areGood_2) (s := pw4 s (x0 + 2) p) (fun e => [x0, k, e]) (fun e => pHas k.toNat e.toNat = true ∧ ¬ pReg k.toNat e.toNat (p4g p e.toNat) = true) (fun _ => some 0) (u_X38_areGood_39 (pw4 s (x0 + 2) p) x0 k) 0 3 (by omega)
    (fun e a b c => by rw [body e a b, if_neg c]) (fun e a b c => by rw [body e a b, if_pos c])
    (by
      show b_X38_areGood_2 _ x0 k 3 = _
      unfold b_X38_areGood_2
      rw [if_neg (by omega)]) with ⟨e, a1, a2, a3, a4, a5⟩ | ⟨a1, a2⟩
  · rw [a5, if_neg]
    unfold pGood
    intro h
    simp only [Bool.and_eq_true, Bool.or_eq_true, Bool.not_eq_true'] at h
    have : e = 0 ∨ e = 1 ∨ e = 2 := by omega
    rcases this with rfl | rfl | rfl
    · exact a3.2 ((h.1.1.1).resolve_left (by rw [show pHas k.toNat 0 = true from a3.1]; decide))
    · exact a3.2 ((h.1.1.2).resolve_left (by rw [show pHas k.toNat 1 = true from a3.1]; decide))
    · exact a3.2 ((h.1.2).resolve_left (by rw [show pHas k.toNat 2 = true from a3.1]; decide))
  · rw [a2, end_]
    have q : ∀ e : Int, 0 ≤ e → e < 3 → (!pHas k.toNat e.toNat || pReg k.toNat e.toNat (p4g p e.toNat)) = true := by
      intro e a b
      have := a1 e a b
      simp only [Bool.or_eq_true, Bool.not_eq_true']
      by_cases c : pHas k.toNat e.toNat = true
      · exact .inr (Decidable.not_not.mp fun d => this ⟨c, d⟩)
      · exact .inl (by simpa using c)
    unfold pGood
    rw [show (!pHas k.toNat 0 || pReg k.toNat 0 (p4g p 0)) = true from q 0 (by omega) (by omega), show (!pHas k.toNat 1 || pReg k.toNat 1 (p4g p 1)) = true from q 1 (by omega) (by omega), show (!pHas k.toNat 2 || pReg k.toNat 2 (p4g p 2)) = true from q 2 (by omega) (by omega)]
    simp only [Bool.true_and]
theorem s_X38_take (s : jS) (x0 k w : Int) (hR : pRows s (x0 + 1)) (h0 : 0 ≤ k) (h1 : k < 75) (hw : -2147483648 ≤ w ∧ w ≤ 2147483647) : ∃ q, m_X38_take s x0 k w = some (pw4 s (x0 + 2) q, if pTk k.toNat w = true then 1 else 0) ∧ (pTk k.toNat w = true → q = pPt k.toNat w) := by
  rw [em_X38_take]; unfold dm_X38_take
  rw [eu_X38_take_2]; unfold du_X38_take_2
  have ek : ((k.toNat : Nat) : Int) = k := Int.toNat_of_nonneg h0
  have body : ∀ (e e' : Int) (p : jP4), 0 ≤ e → e < 4 → e' = e + 1 → jlpW (jc4 b_X38_take_2) [x0, k, w, e] (pw4 s (x0 + 2) p) = jlpW (jc4 b_X38_take_2) [x0, k, w, e'] (pw4 s (x0 + 2) (p4s p e.toNat (if e < 3 ∧ pSho k.toNat e.toNat = true then 8 else 0))) := by
    intro e e' p a b c
    subst c
    apply jlpW_l
    show b_X38_take_2 (pw4 s (x0 + 2) p) x0 k w e = _
    unfold b_X38_take_2
    rw [if_pos b, s_X38_isShortPart _ _ _ _ (pRows_pw4 hR (by omega)) h0 h1 a b]
    simp (disch := omega) only [Option.bind_some, eu_X38_take_31, du_X38_take_31, eu_X38_take_32, du_X38_take_32, jst_in, W32_in]
    rw [pw4_put _ _ _ _ a b, pw4_put _ _ _ _ a b]
    by_cases c1 : e < 3
    · by_cases c2 : pSho k.toNat e.toNat = true
      · rw [if_pos c1, if_pos c2, if_neg (by decide), if_pos ⟨c1, c2⟩]
      · rw [if_pos c1, if_neg c2, if_pos rfl, if_neg (fun q => c2 q.2)]
    · rw [if_neg c1, if_neg (fun q => c1 q.1)]
  have fin : ∀ p : jP4, jlpW (jc4 b_X38_take_2) [x0, k, w, 4] (pw4 s (x0 + 2) p) = jlpW (jc4 b_X38_take_41) [x0, k, w, 0] (pw4 s (x0 + 2) p) := by
    intro p
    apply jlpW_r
    show b_X38_take_2 (pw4 s (x0 + 2) p) x0 k w 4 = _
    unfold b_X38_take_2
    rw [if_neg (by omega), eu_X38_take_39]; unfold du_X38_take_39
    rw [eu_X38_take_41]; rfl
  have e0 : jlpW (jc4 b_X38_take_2) [x0, k, w, 0] s = jlpW (jc4 b_X38_take_41) [x0, k, w, 0] (pw4 s (x0 + 2) (pIni k.toNat)) := by
    conv => lhs; rw [← pw4_self s (x0 + 2)]
    rw [body 0 1 _ (by omega) (by omega) rfl, body 1 2 _ (by omega) (by omega) rfl, body 2 3 _ (by omega) (by omega) rfl, body 3 4 _ (by omega) (by omega) rfl, fin]
    congr 2
    unfold pIni
    simp
    rfl
  rw [e0]
  have hok := pKr_ok k.toNat (by omega)
  have hb : pBits k.toNat ≤ 32 := by unfold pBits; split <;> omega
  have hrr : ∀ i, i < prs (pKr k.toNat) → (fun i => pRow (32 * k.toNat + i)) (0 + i) = prr (pKr k.toNat) i := by
    intro i hi
    rw [hok.2] at hi
    show pRow (32 * k.toNat + (0 + i)) = _
    unfold pRow
    rw [show (32 * k.toNat + (0 + i)) / 32 = k.toNat by omega, show (32 * k.toNat + (0 + i)) % 32 = i by omega]
  have hpt := ptk_runs (fun i => pRow (32 * k.toNat + i)) w (pKr k.toNat) 0 (pIni k.toNat) hok.1 hrr
  rw [hok.2] at hpt
  have hi : ∀ e, e < 4 → 0 ≤ p4g (pIni k.toNat) e ∧ p4g (pIni k.toNat) e ≤ 8 + (0 : Int) * 1048576 := by
    intro e he
    have : e = 0 ∨ e = 1 ∨ e = 2 ∨ e = 3 := by omega
    unfold pIni
    rcases this with rfl | rfl | rfl | rfl
    · show 0 ≤ (if pSho k.toNat 0 = true then (8 : Int) else 0) ∧ (if pSho k.toNat 0 = true then (8 : Int) else 0) ≤ _
      split <;> omega
    · show 0 ≤ (if pSho k.toNat 1 = true then (8 : Int) else 0) ∧ (if pSho k.toNat 1 = true then (8 : Int) else 0) ≤ _
      split <;> omega
    · show 0 ≤ (if pSho k.toNat 2 = true then (8 : Int) else 0) ∧ (if pSho k.toNat 2 = true then (8 : Int) else 0) ≤ _
      split <;> omega
    · show 0 ≤ (0 : Int) ∧ (0 : Int) ≤ _
      omega
  rcases s_X38_take_loop s x0 k w hR h0 h1 hw (pBits k.toNat) 0 (pIni k.toNat) (by omega) (by omega) hi with ⟨q, q1, q2, q3⟩ | ⟨q1, q, q3⟩
  · rw [q3]
    have hres : pRes k.toNat w = some q := by unfold pRes; rw [← hpt]; exact q1
    have hsg := pSgn_lo k.toNat
    have hq := q2 3 (by omega)
    have hst : ∀ t, t = p4g q 3 → W32 t = t := fun t ht => W32_in (by subst ht; omega) (by subst ht; omega)
    have step1 : u_X38_take_158 (pw4 s (x0 + 2) q) x0 k = u_X38_take_189 (pw4 s (x0 + 2) (q.1, q.2.1, q.2.2.1, pAdv k.toNat q.2.2.2)) x0 k := by
      rw [eu_X38_take_158]; unfold du_X38_take_158
      rw [e_X38_signOf, Option.bind_some]
      have es : v_X38_signOf k = pSgn k.toNat := (congrArg v_X38_signOf ek.symm : _)
      rw [es]
      unfold pAdv
      by_cases c : pSgn k.toNat < 0
      · rw [if_pos c, if_pos c]
      · rw [if_neg c, if_neg c]
        simp (disch := omega) only [jlt_in, jst_in, Option.bind_some, W32_in]
        rw [jf_pw4, if_pos ⟨rfl, rfl, by omega, by omega⟩, pw4_put _ _ _ _ (by omega) (by omega)]
        rfl
    have step2 : ∀ p : jP4, u_X38_take_189 (pw4 s (x0 + 2) p) x0 k = u_X38_take_210 (pw4 s (x0 + 2) (p.1, p.2.1, p.2.2.1, if k.toNat = 56 then I_and p.2.2.2 1048575 else p.2.2.2)) x0 k := by
      intro p
      rw [eu_X38_take_189]; unfold du_X38_take_189
      by_cases c : k = 56
      · rw [if_pos c, if_pos (by omega)]
        simp (disch := omega) only [jlt_in, jst_in, Option.bind_some]
        rw [jf_pw4, if_pos ⟨rfl, rfl, by omega, by omega⟩, pw4_put _ _ _ _ (by omega) (by omega)]
        rfl
      · rw [if_neg c, if_neg (by omega)]
    rw [step1, step2, eu_X38_take_210]; unfold du_X38_take_210
    rw [s_X38_areGood s x0 k _ hR h0 h1, Option.bind_some]
    have hT : pTk k.toNat w = pGood k.toNat (pAdj k.toNat q) := by unfold pTk; rw [hres]
    have hP : pPt k.toNat w = pAdj k.toNat q := by unfold pPt; rw [hres]
    refine ⟨pAdj k.toNat q, ?_, fun _ => hP.symm⟩
    rw [hT]
    show some (pw4 s (x0 + 2) (pAdj k.toNat q), Wz (if pGood k.toNat (pAdj k.toNat q) = true then 1 else 0)) = _
    by_cases c : pGood k.toNat (pAdj k.toNat q) = true
    · rw [if_pos c, Wz_1]
    · rw [if_neg c, Wz_0]
  · have hres : pRes k.toNat w = none := by unfold pRes; rw [← hpt]; exact q1
    have hT : pTk k.toNat w = false := by unfold pTk; rw [hres]
    refine ⟨q, ?_, fun h => by rw [hT] at h; cases h⟩
    rw [q3, hT]; rfl
/-- the first kind of a row of them that has a word -/
theorem s_X38_find (s : jS) (x0 w : Int) (hR : pRows s (x0 + 1)) (hw : -2147483648 ≤ w ∧ w ≤ 2147483647) : ∃ q r, m_X38_find s x0 w = some (pw4 s (x0 + 2) q, r) ∧
    ((0 ≤ r ∧ (if w % 4 = 3 then 0 else 48) ≤ r ∧ r < (if w % 4 = 3 then 48 else 75) ∧ pTk r.toNat w = true ∧ q = pPt r.toNat w ∧ ∀ j : Int, (if w % 4 = 3 then 0 else 48) ≤ j → j < r → ¬ pTk j.toNat w = true) ∨
     (r = -1 ∧ ∀ j : Int, (if w % 4 = 3 then 0 else 48) ≤ j → j < (if w % 4 = 3 then 48 else 75) → ¬ pTk j.toNat w = true)) := by
  have loop : ∀ (n : Nat) (lo hi : Int) (t : jS), (∃ q, t = pw4 s (x0 + 2) q) → 0 ≤ lo → hi ≤ 75 → hi - lo = n → ∃ q r, jlpW (jc4 b_X38_find_32) [x0, w, hi, lo] t = some (pw4 s (x0 + 2) q, r) ∧ ((0 ≤ r ∧ lo ≤ r ∧ r < hi ∧ pTk r.toNat w = true ∧ q = pPt r.toNat w ∧ ∀ j : Int, lo ≤ j → j < r → ¬ pTk j.toNat w = true) ∨ (r = -1 ∧ ∀ j : Int, lo ≤ j → j < hi → ¬ pTk j.toNat w = true)) := by
    intro n
    induction n with
    | zero =>
      rintro lo hi t ⟨q, rfl⟩ a b c
      refine ⟨q, -1, jlpW_r ?_, .inr ⟨rfl, fun j x y => by omega⟩⟩
      show b_X38_find_32 _ x0 w hi lo = _
      unfold b_X38_find_32
      rw [if_neg (by omega)]
    | succ n ih =>
      rintro lo hi t ⟨q, rfl⟩ a b c
      obtain ⟨q1, h1, h2⟩ := s_X38_take (pw4 s (x0 + 2) q) x0 lo w (pRows_pw4 hR (by omega)) a (by omega) hw
      rw [pw4_pw4] at h1
      by_cases d : pTk lo.toNat w = true
      · refine ⟨q1, lo, jlpW_r ?_, .inl ⟨a, Int.le_refl _, by omega, d, h2 d, fun j x y => by omega⟩⟩
        show b_X38_find_32 _ x0 w hi lo = _
        unfold b_X38_find_32
        rw [if_pos (by omega), h1, Option.bind_some, if_pos d, if_neg (by show ¬ (1 : Int) = 0; decide)]
      · obtain ⟨q2, r, h3, h4⟩ := ih (lo + 1) hi (pw4 s (x0 + 2) q1) ⟨q1, rfl⟩ (by omega) b (by omega)
        refine ⟨q2, r, ?_, ?_⟩
        · rw [← h3]
          apply jlpW_l
          show b_X38_find_32 _ x0 w hi lo = _
          unfold b_X38_find_32
          rw [if_pos (by omega), h1, Option.bind_some, if_neg d, if_pos rfl, W32_in (by omega) (by omega)]
        · rcases h4 with ⟨g0, g1, g2, g3, g4, g5⟩ | ⟨g1, g2⟩
          · refine .inl ⟨g0, by omega, g2, g3, g4, fun j x y => ?_⟩
            by_cases e : j = lo
            · subst e; exact d
            · exact g5 j (by omega) y
          · refine .inr ⟨g1, fun j x y => ?_⟩
            by_cases e : j = lo
            · subst e; exact d
            · exact g2 j (by omega) y
  rw [em_X38_find]; unfold dm_X38_find
  simp only [e_X38_isLong, Option.bind_some, I_and_3, eu_X38_find_13, du_X38_find_13, eu_X38_find_28, du_X38_find_28, eu_X38_find_32, du_X38_find_32]
  by_cases c : w % 4 = 3
  · simp only [if_pos c]
    rw [if_neg (by decide), if_neg (by decide)]
    exact loop 48 0 48 s ⟨_, (pw4_self s (x0 + 2)).symm⟩ (by omega) (by omega) rfl
  · simp only [if_neg c]
    rw [if_pos trivial, if_pos trivial]
    exact loop 27 48 75 s ⟨_, (pw4_self s (x0 + 2)).symm⟩ (by omega) (by omega) rfl
end jTake
