/-! decimal numbers: the JDK's, and the twin's -/
section jDec
variable {s t u : jS} {x v V M p q d : Int} {n : Nat} {l m : List Int}
/-- k digits -/
def dgF (n : Nat) : Nat → List Int
  | 0 => []
  | k + 1 => (48 + ((n / 10 ^ k % 10 : Nat) : Int)) :: dgF n k
theorem dgF_len (k : Nat) : (dgF n k).length = k := by
  induction k with
  | zero => rfl
  | succ k ih => show (dgF n k).length + 1 = k + 1; rw [ih]
theorem dgF_back (k : Nat) : dgF n (k + 1) = dgF (n / 10) k ++ [48 + ((n % 10 : Nat) : Int)] := by
  induction k with
  | zero => show [48 + ((n / 10 ^ 0 % 10 : Nat) : Int)] = [] ++ _; simp
  | succ k ih =>
    show (48 + ((n / 10 ^ (k + 1) % 10 : Nat) : Int)) :: dgF n (k + 1) = ((48 + ((n / 10 / 10 ^ k % 10 : Nat) : Int)) :: dgF (n / 10) k) ++ _
    rw [ih, Nat.div_div_eq_div_mul, Nat.pow_succ', List.cons_append]
theorem dgF_ch (k : Nat) : pCh (dgF n k) := by
  induction k with
  | zero => intro c hc; cases hc
  | succ k ih =>
    intro c hc
    rcases List.mem_cons.mp hc with z | z
    · rw [z]; omega
    · exact ih c z
/-- how many digits -/
def dgN (n : Nat) : Nat := if n < 10 then 1 else if n < 100 then 2 else if n < 1000 then 3 else if n < 10000 then 4 else if n < 100000 then 5 else if n < 1000000 then 6 else if n < 10000000 then 7 else if n < 100000000 then 8 else if n < 1000000000 then 9 else 10
theorem dgN_lo : 1 ≤ dgN n ∧ dgN n ≤ 10 := by
  unfold dgN
  repeat' split
  all_goals omega
theorem dgN_one (h : n < 10) : dgN n = 1 := by unfold dgN; rw [if_pos h]
theorem dgN_s (h : 10 ≤ n) (h' : n < 10000000000) : dgN n = dgN (n / 10) + 1 := by
  unfold dgN
  repeat' split
  all_goals omega
theorem dgN_le {j : Nat} (hj : j < 10) (hn : n < 10000000000) : 10 ^ (j + 1) ≤ n ↔ j + 2 ≤ dgN n := by
  have : j = 0 ∨ j = 1 ∨ j = 2 ∨ j = 3 ∨ j = 4 ∨ j = 5 ∨ j = 6 ∨ j = 7 ∨ j = 8 ∨ j = 9 := by omega
  unfold dgN
  rcases this with rfl | rfl | rfl | rfl | rfl | rfl | rfl | rfl | rfl | rfl <;> simp only [Nat.reduceAdd, Nat.reducePow] <;> (repeat' split) <;> omega
def decL (x : Int) : List Int := if x < 0 then 45 :: dgF x.natAbs (dgN x.natAbs) else dgF x.natAbs (dgN x.natAbs)
theorem decL_len (x : Int) : ((decL x).length : Int) = dgN x.natAbs + (if x < 0 then 1 else 0) := by
  unfold decL
  split
  · rw [List.length_cons, dgF_len]; omega
  · rw [dgF_len]; omega
theorem decL_le (x : Int) : 1 ≤ (decL x).length ∧ (decL x).length ≤ 11 := by
  have := decL_len x
  have := dgN_lo (n := x.natAbs)
  split at * <;> omega
theorem decL_ch (x : Int) : pCh (decL x) := by
  unfold decL
  split
  · intro c hc
    rcases List.mem_cons.mp hc with z | z
    · omega
    · exact dgF_ch _ c z
  · exact dgF_ch _
/-! the JDK's -/
theorem ss_step {k P : Int} (h1 : 1 ≤ k) (h2 : k < 10) (hd : 0 ≤ d ∧ d ≤ 1) : jlpR (jc4 b_J16_stringSize_16) [-(n : Int), d, -P, k] s = if (n : Int) < P then some (k + d) else jlpR (jc4 b_J16_stringSize_16) [-(n : Int), d, W32 (10 * -P), k + 1] s := by
  by_cases c : (n : Int) < P
  · rw [if_pos c]
    refine jlpR_r (r := some (k + d)) ?_
    show b_J16_stringSize_16 s (-(n : Int)) d (-P) k = _
    unfold b_J16_stringSize_16
    rw [if_pos h2, if_pos (by omega), eu_J16_stringSize_27]; unfold du_J16_stringSize_27
    rw [W32_in (by omega) (by omega)]
  · rw [if_neg c]
    refine jlpR_l ?_
    show b_J16_stringSize_16 s (-(n : Int)) d (-P) k = _
    unfold b_J16_stringSize_16
    rw [if_pos h2, if_neg (by omega)]
    simp only [jlet]
    rw [W32_in (z := k + 1) (by omega) (by omega)]
theorem s_ssize (hx : -2147483648 ≤ x ∧ x ≤ 2147483647) : m_J16_stringSize s x = some ((decL x).length : Int) := by
  have key : ∀ d : Int, 0 ≤ d ∧ d ≤ 1 → u_J16_stringSize_11 s (-(x.natAbs : Int)) d = some (dgN x.natAbs + d) := by
    intro d hd
    have hn : x.natAbs < 10000000000 := by omega
    generalize x.natAbs = n at hn ⊢
    rw [eu_J16_stringSize_11]; unfold du_J16_stringSize_11
    rw [eu_J16_stringSize_16]; unfold du_J16_stringSize_16
    rw [ss_step (P := 10) (by omega) (by omega) hd, W32_in (by omega) (by omega),
      show (10 : Int) * -10 = -100 by omega, ss_step (P := 100) (by omega) (by omega) hd, W32_in (by omega) (by omega),
      show (10 : Int) * -100 = -1000 by omega, ss_step (P := 1000) (by omega) (by omega) hd, W32_in (by omega) (by omega),
      show (10 : Int) * -1000 = -10000 by omega, ss_step (P := 10000) (by omega) (by omega) hd, W32_in (by omega) (by omega),
      show (10 : Int) * -10000 = -100000 by omega, ss_step (P := 100000) (by omega) (by omega) hd, W32_in (by omega) (by omega),
      show (10 : Int) * -100000 = -1000000 by omega, ss_step (P := 1000000) (by omega) (by omega) hd, W32_in (by omega) (by omega),
      show (10 : Int) * -1000000 = -10000000 by omega, ss_step (P := 10000000) (by omega) (by omega) hd, W32_in (by omega) (by omega),
      show (10 : Int) * -10000000 = -100000000 by omega, ss_step (P := 100000000) (by omega) (by omega) hd, W32_in (by omega) (by omega),
      show (10 : Int) * -100000000 = -1000000000 by omega, ss_step (P := 1000000000) (by omega) (by omega) hd]
    have h10 : ∀ P : Int, jlpR (jc4 b_J16_stringSize_16) [-(n : Int), d, P, 10] s = some (10 + d) := fun P => by
      refine jlpR_r (r := some (10 + d)) ?_
      show b_J16_stringSize_16 s (-(n : Int)) d P 10 = _
      unfold b_J16_stringSize_16
      rw [if_neg (by omega), eu_J16_stringSize_42]; unfold du_J16_stringSize_42
      rw [W32_in (by omega) (by omega)]
    simp only [Int.reduceAdd]
    rw [h10]
    unfold dgN
    repeat' split
    all_goals first | rfl | (exfalso; omega)
  rw [em_J16_stringSize]; unfold dm_J16_stringSize
  have hl := decL_len x
  by_cases c : x < 0
  · rw [if_pos c] at hl
    have e := key 1 (by omega)
    rw [show -(x.natAbs : Int) = x by omega] at e
    rw [if_pos c, e, ← hl]
  · rw [if_neg c]
    rw [if_neg c] at hl
    simp only [jlet]
    rw [W32_in (by omega) (by omega), show -x = -(x.natAbs : Int) by omega, key 0 (by omega), hl]
/-- bytes written at lo -/
def bWr (s t : jS) (v lo : Int) (l : List Int) : Prop := jSm s t ∧ ∀ c a k, jf t c a k = if c = 1001 ∧ a = v ∧ lo ≤ k ∧ k < lo + l.length then sb (l.getD (k - lo).toNat 0) else jf s c a k
theorem bWr.rfl {lo : Int} : bWr s s v lo [] := ⟨jSm.rfl, fun c a k => by rw [if_neg (by show ¬ (_ ∧ _ ∧ _ ∧ k < lo + (0 : Int)); omega)]⟩
theorem bWr.cons {lo lo' c : Int} (h : bWr s t v lo' l) (e : lo' = lo + 1) : bWr s (jp t 1001 v lo (sb c)) v lo (c :: l) := by
  subst e
  refine ⟨h.1.jp, fun c' a k => ?_⟩
  rw [jf_jp, h.2, List.length_cons]
  by_cases z : c' = 1001 ∧ a = v
  · by_cases y : k = lo
    · rw [if_pos ⟨z.1, z.2, y⟩, if_pos ⟨z.1, z.2, by omega, by omega⟩, y, show (lo - lo).toNat = 0 by omega]; rfl
    · rw [if_neg (fun w => y w.2.2)]
      by_cases w : lo + 1 ≤ k ∧ k < lo + 1 + l.length
      · rw [if_pos ⟨z.1, z.2, w⟩, if_pos ⟨z.1, z.2, by omega, by omega⟩, show (k - lo).toNat = (k - (lo + 1)).toNat + 1 by omega]; rfl
      · rw [if_neg (fun y => w y.2.2), if_neg (by omega)]
  · rw [if_neg (fun w => z ⟨w.1, w.2.1⟩), if_neg (fun w => z ⟨w.1, w.2.1⟩), if_neg (fun w => z ⟨w.1, w.2.1⟩)]
/-- the rows of digits -/
def pDg (s : jS) : Prop := ∀ e : Int, 0 ≤ e → e ≤ 1 → (0 ≤ jc s (1000 + e) ∧ jc s (1000 + e) < jn s ∧ jK s (jc s (1000 + e)) = 4001) ∧ jN s (jc s (1000 + e)) = 100 ∧ ∀ i, 0 ≤ i → i < 100 → jF s (jc s (1000 + e)) i = 48 + (if e = 0 then i % 10 else i / 10)
theorem pDg.wr {lo : Int} (h : pDg s) (g : bWr s t v lo l) : pDg t := fun e e0 e1 => by
  obtain ⟨⟨a1, a2, a3⟩, a4, a5⟩ := h e e0 e1
  obtain ⟨⟨g1, g2, g3, g4, g5, g6, g7⟩, g8⟩ := g
  rw [g7, g1, g2, g3]
  refine ⟨⟨a1, a2, a3⟩, a4, fun i i0 i1 => ?_⟩
  rw [jF_k (show jK t _ = 4001 by rw [g1]; exact a3), g8, if_neg (by omega), ← jF_k a3]
  exact a5 i i0 i1
theorem dg1 (h : pDg s) {i : Int} (i0 : 0 ≤ i) (i1 : i < 100) : jldE s 1001 (jc s 1000) i = some (48 + i % 10) := by
  obtain ⟨⟨a1, a2, a3⟩, a4, a5⟩ := h 0 (by omega) (by omega)
  rw [show (1000 : Int) + 0 = 1000 by omega] at *
  rw [jldE_in a1 (.inr a3) i0 (by omega), a5 i i0 i1, if_pos rfl]
theorem dg2 (h : pDg s) {i : Int} (i0 : 0 ≤ i) (i1 : i < 100) : jldE s 1001 (jc s 1001) i = some (48 + i / 10) := by
  obtain ⟨⟨a1, a2, a3⟩, a4, a5⟩ := h 1 (by omega) (by omega)
  rw [show (1000 : Int) + 1 = 1001 by omega] at *
  rw [jldE_in a1 (.inr a3) i0 (by omega), a5 i i0 i1, if_neg (by omega)]
theorem gc_loop (hn : n < 10000000000) (hn' : n ≤ 2147483648) {g : Int} (hD : pDg s) (hv : 0 ≤ v) (hK : jK s v = 1001) : ∀ t p l, bWr s t v p l → (dgN n : Int) ≤ p → p ≤ jN s v → p ≤ 1000000 →
    ∃ t', jlpW (jc4 b_J16_getChars_22) [-(n : Int), v, p, g] t = u_J16_getChars_104 t' v (p - dgN n) g ∧ bWr s t' v (p - dgN n) (dgF n (dgN n) ++ l) := by
  induction n using Nat.strongRecOn with
  | _ n ih =>
    intro t p l hW h1 h2 h3
    have hDt := hD.wr hW
    obtain ⟨⟨g1, g2, g3, g4, g5, g6, g7⟩, g8⟩ := id hW
    have hKt : jK t v = 1001 := by rw [g1]; exact hK
    have hNt : jN t v = jN s v := by rw [g2]
    by_cases c : n < 100
    · by_cases c1 : n < 10
      · rw [dgN_one c1] at h1 ⊢
        refine ⟨jp t 1001 v (p - 1) (sb (48 + (n : Int))), ?_, ?_⟩
        · refine jlpW_r ?_
          show b_J16_getChars_22 t (-(n : Int)) v p g = _
          unfold b_J16_getChars_22
          rw [if_pos (by omega)]
          congr 1
          rw [eu_J16_getChars_72]; unfold du_J16_getChars_72
          rw [show -(-(n : Int)) = n by omega, W32_in (by omega) (by omega), dg1 hDt (by omega) (by omega), Option.bind_some, W32_in (by omega) (by omega), show (n : Int) % 10 = n by omega, sb_c (by omega) (by omega), jsa_in hv hKt (by omega) (by omega), Option.bind_some, if_neg (by omega)]
          rfl
        · have := hW.cons (lo := p - 1) (c := 48 + (n : Int)) (by omega)
          show bWr s _ v (p - 1) ((48 + ((n / 10 ^ 0 % 10 : Nat) : Int)) :: l)
          rw [show n / 10 ^ 0 % 10 = n by simp; omega]; exact this
      · have hd : dgN n = 2 := by unfold dgN; rw [if_neg c1, if_pos c]
        rw [hd] at h1 ⊢
        refine ⟨jp (jp t 1001 v (p - 1) (sb (48 + (n : Int) % 10))) 1001 v (p - 2) (sb (48 + (n : Int) / 10)), ?_, ?_⟩
        · refine jlpW_r ?_
          show b_J16_getChars_22 t (-(n : Int)) v p g = _
          unfold b_J16_getChars_22
          rw [if_pos (by omega)]
          congr 1
          rw [eu_J16_getChars_72]; unfold du_J16_getChars_72
          have hW1 := hW.cons (lo := p - 1) (c := 48 + (n : Int) % 10) (by omega)
          rw [show -(-(n : Int)) = n by omega, W32_in (by omega) (by omega), dg1 hDt (by omega) (by omega), Option.bind_some, W32_in (z := p + -1) (by omega) (by omega), show p + -1 = p - 1 by omega, sb_c (by omega) (by omega), jsa_in hv hKt (by omega) (by omega), Option.bind_some, if_pos (by omega), dg2 (hD.wr hW1) (by omega) (by omega), Option.bind_some, W32_in (z := p - 1 + -1) (by omega) (by omega), show p - 1 + -1 = p - 2 by omega, sb_c (by omega) (by omega), jsa_in hv (by rw [jp_K]; exact hKt) (by omega) (by rw [jp_N]; omega), Option.bind_some]
          rfl
        · have hW1 := (hW.cons (lo := p - 1) (c := 48 + (n : Int) % 10) (by omega)).cons (lo := p - 2) (c := 48 + (n : Int) / 10) (by omega)
          show bWr s _ v (p - 2) ((48 + ((n / 10 ^ 1 % 10 : Nat) : Int)) :: (48 + ((n / 10 ^ 0 % 10 : Nat) : Int)) :: l)
          rw [show ((n / 10 ^ 0 % 10 : Nat) : Int) = (n : Int) % 10 by simp, show ((n / 10 ^ 1 % 10 : Nat) : Int) = (n : Int) / 10 by simp; omega]; exact hW1
    · have hd : dgN n = dgN (n / 100) + 2 := by rw [dgN_s (by omega) hn, dgN_s (n := n / 10) (by omega) (by omega), Nat.div_div_eq_div_mul]
      have hW1 := hW.cons (lo := p - 1) (c := 48 + (n % 100 : Int) % 10) (by omega)
      have hW2 := hW1.cons (lo := p - 2) (c := 48 + (n % 100 : Int) / 10) (by omega)
      have hpos := dgN_lo (n := n / 100)
      obtain ⟨t', e1, e2⟩ := ih (n / 100) (by omega) (by omega) (by omega) _ (p - 2) _ hW2 (by omega) (by omega) (by omega)
      refine ⟨t', ?_, ?_⟩
      · rw [show p - (dgN n : Int) = p - 2 - (dgN (n / 100) : Int) by omega, ← e1]
        refine jlpW_l ?_
        show b_J16_getChars_22 t (-(n : Int)) v p g = _
        unfold b_J16_getChars_22
        have hq : I_div (-(n : Int)) 100 = -((n / 100 : Nat) : Int) := by
          rw [i_div_p (by omega) (by omega), Int.neg_tdiv, Int.tdiv_eq_ediv_of_nonneg (by omega), W32_in (by omega) (by omega)]; omega
        rw [if_neg (by omega), jdv_in (by omega), Option.bind_some, hq]
        simp only [jlet]
        rw [W32_in (z := -((n / 100 : Nat) : Int) * 100) (by omega) (by omega), W32_in (z := -((n / 100 : Nat) : Int) * 100 - -(n : Int)) (by omega) (by omega), show -((n / 100 : Nat) : Int) * 100 - -(n : Int) = (n % 100 : Int) by omega, dg1 hDt (by omega) (by omega), Option.bind_some, W32_in (z := p + -1) (by omega) (by omega), show p + -1 = p - 1 by omega, sb_c (v := 48 + (n % 100 : Int) % 10) (by omega) (by omega), jsa_in hv hKt (by omega) (by omega), Option.bind_some, dg2 (hD.wr hW1) (by omega) (by omega), Option.bind_some, W32_in (z := p - 1 + -1) (by omega) (by omega), show p - 1 + -1 = p - 2 by omega, sb_c (v := 48 + (n % 100 : Int) / 10) (by omega) (by omega), jsa_in hv (by rw [jp_K]; exact hKt) (by omega) (by rw [jp_N]; omega), Option.bind_some]
      · rw [show p - (dgN n : Int) = p - 2 - (dgN (n / 100) : Int) by omega, hd]
        have hb : dgF n (dgN (n / 100) + 2) ++ l = dgF (n / 100) (dgN (n / 100)) ++ (48 + (n % 100 : Int) / 10) :: (48 + (n % 100 : Int) % 10) :: l := by
          rw [dgF_back, dgF_back, Nat.div_div_eq_div_mul, List.append_assoc, List.append_assoc]
          congr 1
          show [48 + ((n / 10 % 10 : Nat) : Int), 48 + ((n % 10 : Nat) : Int)] ++ l = _
          rw [show ((n / 10 % 10 : Nat) : Int) = (n % 100 : Int) / 10 by omega, show ((n % 10 : Nat) : Int) = (n % 100 : Int) % 10 by omega]; rfl
        rw [hb]; exact e2
theorem s_getChars (hx : -2147483648 ≤ x ∧ x ≤ 2147483647) (hD : pDg s) (hv : 0 ≤ v) (hK : jK s v = 1001) (h1 : ((decL x).length : Int) ≤ p) (h2 : p ≤ jN s v) (h3 : p ≤ 1000000) :
    ∃ t', m_J16_getChars s x p v = some (t', p - (decL x).length) ∧ bWr s t' v (p - (decL x).length) (decL x) := by
  have hl := decL_len x
  have hd := dgN_lo (n := x.natAbs)
  rw [em_J16_getChars]; unfold dm_J16_getChars
  by_cases c : x < 0
  · rw [if_pos c] at hl
    obtain ⟨t', e1, e2⟩ := gc_loop (n := x.natAbs) (by omega) (by omega) (g := 1) hD hv hK s p [] bWr.rfl (by omega) h2 h3
    have hK' : jK t' v = 1001 := by rw [e2.1.1]; exact hK
    have hN' : jN t' v = jN s v := by rw [e2.1.2.1]
    refine ⟨jp t' 1001 v (p - (decL x).length) (sb 45), ?_, ?_⟩
    · rw [if_pos c, eu_J16_getChars_12]; unfold du_J16_getChars_12
      rw [if_neg (by omega), eu_J16_getChars_22]; unfold du_J16_getChars_22
      rw [show [x, v, p, (1 : Int)] = [-(x.natAbs : Int), v, p, 1] by rw [show -(x.natAbs : Int) = x by omega], e1, eu_J16_getChars_104]; unfold du_J16_getChars_104
      rw [if_neg (by omega), W32_in (by omega) (by omega), sb_c (by omega) (by omega), jsa_in hv hK' (by omega) (by omega), Option.bind_some, show p - (dgN x.natAbs : Int) + -1 = p - (decL x).length by omega]
    · rw [List.append_nil] at e2
      have := e2.cons (lo := p - (decL x).length) (c := 45) (by omega)
      rw [show decL x = 45 :: dgF x.natAbs (dgN x.natAbs) by unfold decL; rw [if_pos c]] at *
      exact this
  · rw [if_neg c] at hl
    obtain ⟨t', e1, e2⟩ := gc_loop (n := x.natAbs) (by omega) (by omega) (g := 0) hD hv hK s p [] bWr.rfl (by omega) h2 h3
    refine ⟨t', ?_, ?_⟩
    · rw [if_neg c, eu_J16_getChars_12]; unfold du_J16_getChars_12
      rw [if_pos rfl, W32_in (by omega) (by omega)]
      simp only [jlet]
      rw [eu_J16_getChars_22]; unfold du_J16_getChars_22
      rw [show -x = -(x.natAbs : Int) by omega, e1, eu_J16_getChars_104]; unfold du_J16_getChars_104
      rw [if_pos rfl, show p - (dgN x.natAbs : Int) = p - (decL x).length by omega]
    · rw [List.append_nil] at e2
      rw [show decL x = dgF x.natAbs (dgN x.natAbs) by unfold decL; rw [if_neg c]] at *
      rw [dgF_len] at *
      exact e2
/-- a number is put behind -/
theorem s_puti (h : pSb s x l M) (hD : pDg s) (hM : M ≤ 400000) {c : Int} (hc : -2147483648 ≤ c ∧ c ≤ 2147483647) (hl : (l.length : Int) + (decL c).length ≤ M) (hB : jBd s 1 (2 * M + 2)) :
    jE (m_J1_append_2 s x c) fun r => r.2 = x ∧ pSb r.1 x (l ++ decL c) M ∧ jGw s r.1 1 (2 * M + 2) (fun b => b = x ∨ b = jf s 8 x 0) ∧ (jf r.1 8 x 0 = jf s 8 x 0 ∨ jn s ≤ jf r.1 8 x 0) := by
  rw [em_J1_append_2]; unfold dm_J1_append_2
  rw [emq_J0_append]; unfold dmq_J0_append
  rw [if_pos (mp_J0 h), em_J0_append_2]; unfold dm_J0_append_2
  rw [s_ssize hc, Option.bind_some]
  simp only [jlet]
  rw [h.2.2.1, W32_in (by omega) (by omega), jE_bind, jE_bind]
  refine jE_mono (s_ensure h hM (n := l.length + (decL c).length) (by omega) hl (by omega) hB) fun r ⟨r1, r2, r3, r4⟩ => ?_
  have r0 := r1
  obtain ⟨⟨a0, a1, a2⟩, b, b', ⟨c0, c1, c2⟩, ⟨d, d', hby⟩, e, f⟩ := r1
  have hD1 : pDg r.1 := by
    intro e e0 e1
    obtain ⟨⟨z1, z2, z3⟩, z4, z5⟩ := hD e e0 e1
    have hc := r3.c
    rw [hc]
    have := r3.n
    refine ⟨⟨z1, by omega, by rw [r3.K z2]; exact z3⟩, by rw [r3.N z2]; exact z4, fun i i0 i1 => ?_⟩
    rw [r3.F z2 (fun z => by rw [z, h.1.2.2] at z3; omega)]; exact z5 i i0 i1
  obtain ⟨t', e1, e2⟩ := s_getChars hc hD1 c0 c2 (p := l.length + (decL c).length) (by omega) r2 (by omega)
  rw [s_isLatin r0, Option.bind_some, if_neg (by omega), e1, Option.bind_some, eu_J0_append_2_48]; unfold du_J0_append_2_48
  simp only [jls]
  rw [show (l.length : Int) + (decL c).length - (decL c).length = l.length by omega] at e2
  obtain ⟨⟨g1, g2, g3, g4, g5, g6, g7⟩, g8⟩ := e2
  have hf : ∀ c' y k, ¬ (c' = 1001 ∧ y = jf r.1 8 x 0) → ¬ (c' = 8 ∧ y = x ∧ k = 3) → jf (jp t' 8 x 3 (l.length + (decL c).length)) c' y k = jf r.1 c' y k := by
    intro c' y k q1 q2
    rw [jf_jp, if_neg q2, g8, if_neg (fun z => q1 ⟨z.1, z.2.1⟩)]
  have hnew : ∀ i : Int, jF (jp t' 8 x 3 (l.length + (decL c).length)) (jf r.1 8 x 0) i = if (l.length : Int) ≤ i ∧ i < l.length + (decL c).length then sb ((decL c).getD (i - l.length).toNat 0) else jF r.1 (jf r.1 8 x 0) i := by
    intro i
    rw [jF_k (show jK (jp t' 8 x 3 (l.length + (decL c).length)) (jf r.1 8 x 0) = 1001 by rw [jp_K, g1]; exact c2), jf_jp, if_neg (by omega), g8, jF_k c2]
    by_cases q : (l.length : Int) ≤ i ∧ i < l.length + (decL c).length
    · rw [if_pos ⟨rfl, rfl, q⟩, if_pos q]
    · rw [if_neg (fun z => q z.2.2), if_neg q]
  have hch := decL_ch c
  refine jE_some.mpr (jE_some.mpr ⟨rfl, ⟨⟨a0, by show x < jn t'; omega, by show jK t' x = 8; rw [g1]; exact a2⟩, by rw [hf _ _ _ (by omega) (by omega)]; exact b, by rw [jf_jp, if_pos ⟨rfl, rfl, rfl⟩, List.length_append]; omega, ?_⟩, ?_, ?_⟩)
  · rw [hf _ _ _ (by omega) (by omega), jp_K, jp_N, g1, g2]
    refine ⟨⟨c0, by show _ < jn t'; omega, c2⟩, ⟨by rw [List.length_append]; omega, d', fun i i0 i1 => ?_⟩, e.app hch, fun i hi => ?_⟩
    · rw [hnew]
      split
      · exact sb_byt (hch.at (by omega))
      · exact hby i i0 (by omega)
    · rw [List.length_append] at hi
      rw [hnew, getD_app]
      by_cases q : i < l.length
      · rw [if_neg (by omega), if_pos q]; exact f i q
      · rw [if_pos (by omega), if_neg q, show ((i : Int) - l.length).toNat = i - l.length by omega]
  · have r5 := r3.mono (p' := 1) (q' := 2 * M + 2) (C := fun b => b = x ∨ b = jf s 8 x 0) (by omega) (by omega) (fun _ _ z => .inl z)
    have r6 := r5.1
    refine ⟨⟨by show jn s ≤ jn t'; omega, by show jn t' ≤ _; omega, by show ju t' ≤ _; omega, by show jlN t' = _; rw [g5]; exact r6.2.2.2.1, by show jlU t' = _; rw [g6]; exact r6.2.2.2.2.1, by show jc t' = _; rw [g7]; exact r6.2.2.2.2.2⟩, fun y hy => ?_, fun c' y k hy hq => ?_⟩
    · show jK t' y = _ ∧ jN t' y = _
      rw [g1, g2]; exact r5.2.1 y hy
    · have hyv : ¬ y = jf r.1 8 x 0 := fun z => by
        rcases r4 with w | w
        · exact hq (.inr (by rw [← w]; exact z))
        · omega
      rw [hf _ _ _ (fun z => hyv z.2) (fun z => hq (.inl z.2.1))]
      exact r5.2.2 _ _ _ hy hq
  · show (_ = jf s 8 x 0 ∨ _)
    rw [hf _ _ _ (by omega) (by omega)]; exact r4
end jDec
