/-! what the twin says: names, decimal and hexadecimal numbers -/
section jSay
variable {s t u : jS} {x v V d c f : Int} {n k N : Nat} {l m : List Int}
/-- the twin's text, and whether an operand went ahead -/
def pTx (t : jS) (V : Int) (l : List Int) (f : Int) : Prop := jf t 42 V 4 = l.length ∧ l.length ≤ 80 ∧ jf t 42 V 5 = f ∧ ∀ i : Nat, i < l.length → jf t 1000 (V + 3) i = l.getD i 0
/-- the text alone differs -/
def tFr (t u : jS) (V : Int) : Prop := jSm t u ∧ ∀ c a k, ¬ (c = 42 ∧ a = V ∧ (k = 4 ∨ k = 5)) → ¬ (c = 1000 ∧ a = V + 3) → jf u c a k = jf t c a k
theorem tFr.rfl : tFr t t V := ⟨jSm.rfl, fun _ _ _ _ _ => Eq.refl _⟩
theorem tFr.trans (h : tFr s t V) (g : tFr t u V) : tFr s u V := ⟨h.1.trans g.1, fun c a k q r => (g.2 c a k q r).trans (h.2 c a k q r)⟩
theorem t_say (h : pTx t V l f) (hl : l.length < 80) : ∃ u, m_X38_say t V c = some (u, 0) ∧ pTx u V (l ++ [c]) f ∧ tFr t u V := by
  obtain ⟨h1, h2, h3, h4⟩ := h
  rw [em_X38_say]; unfold dm_X38_say
  rw [h1, jst_in (by omega) (by omega), Option.bind_some]
  simp only [jls]
  rw [jf_jp, if_neg (by omega), h1, W32_in (by omega) (by omega)]
  refine ⟨_, rfl, ⟨?_, ?_, ?_, ?_⟩, jSm.rfl.jp.jp, fun c' a k' q r => ?_⟩
  · rw [jf_jp, if_pos ⟨rfl, rfl, rfl⟩, List.length_append]; rfl
  · rw [List.length_append]; exact hl
  · rw [jf_jp, if_neg (by omega), jf_jp, if_neg (by omega)]; exact h3
  · intro i hi
    rw [List.length_append] at hi
    have hi' : i < l.length + 1 := hi
    rw [jf_jp, if_neg (by omega), jf_jp, getD_app]
    by_cases q : i < l.length
    · rw [if_neg (by omega), if_pos q]; exact h4 i q
    · rw [if_pos ⟨rfl, rfl, by omega⟩, if_neg q, show i - l.length = 0 by omega]; rfl
  · rw [jf_jp, if_neg (fun z => q ⟨z.1, z.2.1, .inl z.2.2⟩), jf_jp, if_neg (fun z => r ⟨z.1, z.2.1⟩)]
/-! names -/
def nmc (c : Nat) : Int := if c = 37 then 46 else if 26 < c then 21 + c else 96 + c
def nmF (n : Nat) : Nat → List Int
  | 0 => []
  | k + 1 => nmc (n / 40 ^ k % 40) :: nmF n k
def nmN : Nat → Nat → Nat
  | 0, _ => 0
  | f + 1, n => if n = 0 then 0 else nmN f (n / 40) + 1
def nmL (v : Int) : List Int := nmF v.toNat (nmN 12 v.toNat)
theorem nmF_len (k : Nat) : (nmF n k).length = k := by
  induction k with
  | zero => rfl
  | succ k ih => show (nmF n k).length + 1 = k + 1; rw [ih]
theorem nmN_le (f : Nat) : ∀ n, nmN f n ≤ f := by
  induction f with
  | zero => intro n; exact Nat.le_refl _
  | succ f ih =>
    intro n
    show (if n = 0 then 0 else nmN f (n / 40) + 1) ≤ _
    split
    · omega
    · have := ih (n / 40); omega
theorem t_letters (h : n < 40 ^ N) (hN : N ≤ 11) : ∀ j : Int, 0 ≤ j → j + N ≤ 1000 → jlpR (jc2 b_X38_lettersOf_4) [j, (n : Int)] s = some (j + nmN (N + 1) n) := by
  induction N generalizing n with
  | zero =>
    intro j h0 h1
    have : n = 0 := by simp at h; exact h
    subst this
    refine jlpR_r (r := some (j + nmN 1 0)) ?_
    show b_X38_lettersOf_4 s j ((0 : Nat) : Int) = _
    unfold b_X38_lettersOf_4
    rw [if_neg (by rw [L_cmp_gt]; omega)]
    show jinr (some j) = jinr (some (j + 0))
    rw [Int.add_zero]
  | succ N ih =>
    intro j h0 h1
    by_cases c : n = 0
    · subst c
      refine jlpR_r (r := some (j + nmN (N + 1 + 1) 0)) ?_
      show b_X38_lettersOf_4 s j ((0 : Nat) : Int) = _
      unfold b_X38_lettersOf_4
      rw [if_neg (by rw [L_cmp_gt]; omega)]
      show jinr (some j) = jinr (some (j + 0))
      rw [Int.add_zero]
    · have hp : 40 ^ (N + 1) ≤ 40 ^ 11 := Nat.pow_le_pow_right (by omega) hN
      have hlt : n < 419430400000000000 := Nat.lt_of_lt_of_le h (by rw [show 419430400000000000 = 40 ^ 11 by decide]; exact hp)
      have e : jlpR (jc2 b_X38_lettersOf_4) [j, (n : Int)] s = jlpR (jc2 b_X38_lettersOf_4) [j + 1, ((n / 40 : Nat) : Int)] s := by
        refine jlpR_l ?_
        show b_X38_lettersOf_4 s j (n : Int) = _
        unfold b_X38_lettersOf_4
        rw [if_pos (by rw [L_cmp_gt]; omega), jdv_in (by omega), Option.bind_some, L_div_n (by omega) (by omega) (by omega) (by omega), W32_in (by omega) (by omega)]
        rfl
      have hd : n / 40 < 40 ^ N := by rw [Nat.div_lt_iff_lt_mul (by omega)]; rw [Nat.pow_succ] at h; exact h
      rw [e, ih hd (by omega) (j + 1) (by omega) (by omega)]
      show some (j + 1 + (nmN (N + 1) (n / 40) : Int)) = some (j + ((if n = 0 then 0 else nmN (N + 1) (n / 40) + 1 : Nat) : Int))
      rw [if_neg c]
      congr 1; omega
theorem t_name1 (h0 : 0 ≤ v) (hN : N ≤ 12) (hv : v ≤ 9223372036854775807) {x4 : Int} : ∀ (j : Nat) (y x7 : Int), (N : Int) - x7 = j → 0 ≤ x7 → 0 ≤ y → y ≤ 9223372036854775807 →
    jlpW (jc6 b_X38_sayName_23) [V, v, N, x4, y, x7] t = u_X38_sayName_43 t V v N x4 (y / 40 ^ j) := by
  intro j
  induction j with
  | zero =>
    intro y x7 e1 e2 e3 e4
    refine jlpW_r ?_
    show b_X38_sayName_23 t V v N x4 y x7 = _
    unfold b_X38_sayName_23
    rw [if_neg (by omega), Int.pow_zero, Int.ediv_one]
  | succ j ih =>
    intro y x7 e1 e2 e3 e4
    have e : jlpW (jc6 b_X38_sayName_23) [V, v, N, x4, y, x7] t = jlpW (jc6 b_X38_sayName_23) [V, v, N, x4, y / 40, x7 + 1] t := by
      refine jlpW_l ?_
      show b_X38_sayName_23 t V v N x4 y x7 = _
      unfold b_X38_sayName_23
      rw [if_pos (by omega), jdv_in (by omega), Option.bind_some, L_div_n (by omega) (by omega) (by omega) (by omega), W32_in (by omega) (by omega)]
    rw [e, ih (y / 40) (x7 + 1) (by omega) (by omega) (by omega) (by omega), Int.ediv_ediv, if_neg (by omega), Int.sub_zero, Int.pow_succ, Int.mul_comm]
theorem nmc_code (c : Nat) (hc : c < 40) : (c = 37 → nmc c = 46) ∧ (26 < c → ¬ c = 37 → nmc c = 21 + c) ∧ (¬ 26 < c → ¬ c = 37 → nmc c = 96 + c) := by
  unfold nmc
  refine ⟨fun h => if_pos h, fun h h' => ?_, fun h h' => ?_⟩
  · rw [if_neg h', if_pos h]
  · rw [if_neg h', if_neg h]
theorem t_name2 (hv : n ≤ 9223372036854775807) (hN : N ≤ 12) : ∀ (j : Nat) (t : jS) (l : List Int), j ≤ N → pTx t V l f → l.length + j ≤ 80 →
    ∃ u, jlpW (jc4 b_X38_sayName_8) [V, (n : Int), N, (N : Int) - j] t = some (u, 0) ∧ pTx u V (l ++ nmF n j) f ∧ tFr t u V := by
  intro j
  induction j with
  | zero =>
    intro t l hj h hl
    refine ⟨t, jlpW_r (r := some (t, 0)) ?_, by rw [show l ++ nmF n 0 = l from List.append_nil l]; exact h, tFr.rfl⟩
    show b_X38_sayName_8 t V n N ((N : Int) - (0 : Nat)) = _
    unfold b_X38_sayName_8
    rw [if_neg (by omega)]
  | succ j ih =>
    intro t l hj h hl
    obtain ⟨t1, e1, h1, f1⟩ := t_say (c := nmc (n / 40 ^ j % 40)) h (by omega)
    obtain ⟨u, e2, h2, f2⟩ := ih t1 _ (by omega) h1 (by rw [List.length_append]; show l.length + 1 + j ≤ 80; omega)
    refine ⟨u, ?_, ?_, f1.trans f2⟩
    · rw [← e2]
      refine jlpW_l ?_
      show b_X38_sayName_8 t V n N ((N : Int) - ((j + 1 : Nat) : Int)) = _
      unfold b_X38_sayName_8
      rw [if_pos (by omega)]
      simp only [jlet]
      rw [W32_in (by omega) (by omega), eu_X38_sayName_23]; unfold du_X38_sayName_23
      rw [t_name1 (by omega) hN (by omega) j n _ (by omega) (by omega) (by omega) (by omega), eu_X38_sayName_43]; unfold du_X38_sayName_43
      have hq : (n : Int) / 40 ^ j = ((n / 40 ^ j : Nat) : Int) := by rw [Int.natCast_ediv, Int.natCast_pow]; rfl
      have hle : n / 40 ^ j ≤ n := Nat.div_le_self _ _
      rw [hq]
      generalize n / 40 ^ j = y at hle e1 ⊢
      rw [jdv_in (by omega), Option.bind_some, L_rem_n (by omega) (by omega) (by omega) (by omega)]
      simp only [jlet]
      have hlt := Nat.mod_lt y (y := 40) (by omega)
      have hi : L2i ((y : Int) % 40) = ((y % 40 : Nat) : Int) := by rw [l2i_p, W32_in (by omega) (by omega)]; omega
      rw [hi]
      generalize y % 40 = c at hlt e1 ⊢
      obtain ⟨c1, c2, c3⟩ := nmc_code c hlt
      have done : ∀ y, y = nmc c → u_X38_sayName_90 t V n N ((N : Int) - ((j + 1 : Nat) : Int)) y V = some (.inl (t1, [V, (n : Int), N, (N : Int) - j])) := by
        intro y hy
        subst hy
        rw [eu_X38_sayName_90]; unfold du_X38_sayName_90
        rw [e1, Option.bind_some, W32_in (by omega) (by omega), show (N : Int) - ((j + 1 : Nat) : Int) + 1 = (N : Int) - j by omega]
      by_cases z : (c : Int) = 37
      · rw [if_pos z]; exact done _ (c1 (by omega)).symm
      · rw [if_neg z]
        by_cases w : 26 < (c : Int)
        · rw [if_pos w, W32_in (z := 48 + (c : Int)) (by omega) (by omega), W32_in (by omega) (by omega)]
          exact done _ (by rw [c2 (by omega) (by omega)]; omega)
        · rw [if_neg w, W32_in (z := 97 + (c : Int)) (by omega) (by omega), W32_in (by omega) (by omega)]
          exact done _ (by rw [c3 (by omega) (by omega)]; omega)
    · have : l ++ nmF n (j + 1) = (l ++ [nmc (n / 40 ^ j % 40)]) ++ nmF n j := by rw [List.append_assoc]; rfl
      rw [this]; exact h2
theorem t_sayName (h0 : 0 ≤ v) (hv : v < 419430400000000000) (h : pTx t V l f) (hl : l.length + (nmL v).length ≤ 80) : ∃ u, m_X38_sayName t V v = some (u, 0) ∧ pTx u V (l ++ nmL v) f ∧ tFr t u V := by
  have hN := nmN_le 12 v.toNat
  have e : v = (v.toNat : Int) := by omega
  rw [em_X38_sayName]; unfold dm_X38_sayName
  rw [em_X38_lettersOf]; unfold dm_X38_lettersOf
  rw [eu_X38_lettersOf_4]; unfold du_X38_lettersOf_4
  unfold nmL at hl ⊢
  rw [nmF_len] at hl
  generalize v.toNat = n at *
  subst e
  have := t_letters (s := t) (n := n) (N := 11) (by rw [show 40 ^ 11 = 419430400000000000 by decide]; omega) (by omega) 0 (by omega) (by omega)
  rw [this, Option.bind_some, eu_X38_sayName_8]; unfold du_X38_sayName_8
  rw [Int.zero_add]
  have q := t_name2 (V := V) (f := f) (n := n) (N := nmN 12 n) (by omega) hN (nmN 12 n) t l (Nat.le_refl _) h hl
  rw [show ((nmN 12 n : Nat) : Int) - ((nmN 12 n : Nat) : Int) = 0 by omega] at q
  exact q
/-! decimal numbers -/
theorem t_dec1 (hn : n < 10000000000) : ∀ (i j : Nat), j + 1 + i = dgN n → jlpW (jc3 b_X38_sayDecimal_26) [V, (n : Int), ((10 ^ j : Nat) : Int)] t = u_X38_sayDecimal_48 t V n ((10 ^ (dgN n - 1) : Nat) : Int) := by
  intro i
  have hd := dgN_lo (n := n)
  induction i with
  | zero =>
    intro j e
    have hj : j < 10 := by omega
    have hp : 0 < 10 ^ j := Nat.pos_of_ne_zero (by simp)
    have hp2 : 10 ^ j ≤ 10 ^ 9 := Nat.pow_le_pow_right (by omega) (by omega)
    rw [show (10 : Nat) ^ 9 = 1000000000 by decide] at hp2
    have hle := dgN_le hj hn
    refine jlpW_r ?_
    show b_X38_sayDecimal_26 t V n ((10 ^ j : Nat) : Int) = _
    unfold b_X38_sayDecimal_26
    have hx : ¬ 10 * 10 ^ j ≤ n := by rw [← Nat.pow_succ']; omega
    rw [show dgN n - 1 = j by omega]
    generalize 10 ^ j = P at hp hp2 hx ⊢
    have hq : n / P ≤ 9 := by
      have : n / P < 10 := by rw [Nat.div_lt_iff_lt_mul hp]; omega
      omega
    rw [jdv_in (by omega), Option.bind_some, L_div_n (by omega) (by omega) (by omega) (by omega), if_neg (by rw [L_cmp_gt]; omega)]
  | succ i ih =>
    intro j e
    have hj : j < 10 := by omega
    have hp : 0 < 10 ^ j := Nat.pos_of_ne_zero (by simp)
    have hp2 : 10 ^ j ≤ 10 ^ 9 := Nat.pow_le_pow_right (by omega) (by omega)
    rw [show (10 : Nat) ^ 9 = 1000000000 by decide] at hp2
    have hle := dgN_le hj hn
    rw [← ih (j + 1) (by omega)]
    refine jlpW_l ?_
    show b_X38_sayDecimal_26 t V n ((10 ^ j : Nat) : Int) = _
    unfold b_X38_sayDecimal_26
    have hx : 10 * 10 ^ j ≤ n := by rw [← Nat.pow_succ']; omega
    rw [Nat.pow_succ']
    generalize 10 ^ j = P at hp hp2 hx ⊢
    have hq : 10 ≤ n / P := by rw [Nat.le_div_iff_mul_le hp]; omega
    rw [jdv_in (by omega), Option.bind_some, L_div_n (by omega) (by omega) (by omega) (by omega), if_pos (by rw [L_cmp_gt]; omega)]
    simp only [jlet]
    rw [W64_in (by omega) (by omega)]
    congr 4
theorem t_dec2 (hn : n < 10000000000) : ∀ (j : Nat) (t : jS) (l : List Int), j ≤ 10 → pTx t V l f → l.length + j ≤ 80 →
    ∃ u, jlpW (jc3 b_X38_sayDecimal_48) [V, (n : Int), if j = 0 then 0 else ((10 ^ (j - 1) : Nat) : Int)] t = some (u, 0) ∧ pTx u V (l ++ dgF n j) f ∧ tFr t u V := by
  intro j
  induction j with
  | zero =>
    intro t l hj h hl
    refine ⟨t, jlpW_r (r := some (t, 0)) ?_, by rw [show l ++ dgF n 0 = l from List.append_nil l]; exact h, tFr.rfl⟩
    show b_X38_sayDecimal_48 t V n 0 = _
    unfold b_X38_sayDecimal_48
    rw [if_neg (by rw [L_cmp_gt]; omega)]
  | succ j ih =>
    intro t l hj h hl
    obtain ⟨t1, e1, h1, f1⟩ := t_say (c := 48 + ((n / 10 ^ j % 10 : Nat) : Int)) h (by omega)
    obtain ⟨u, e2, h2, f2⟩ := ih t1 _ (by omega) h1 (by rw [List.length_append]; show l.length + 1 + j ≤ 80; omega)
    have hp : 0 < 10 ^ j := Nat.pos_of_ne_zero (by simp)
    have hp2 : 10 ^ j ≤ 10 ^ 9 := Nat.pow_le_pow_right (by omega) (by omega)
    rw [show (10 : Nat) ^ 9 = 1000000000 by decide] at hp2
    refine ⟨u, ?_, ?_, f1.trans f2⟩
    · rw [← e2]
      refine jlpW_l ?_
      show b_X38_sayDecimal_48 t V n ((10 ^ j : Nat) : Int) = _
      unfold b_X38_sayDecimal_48
      have hle : n / 10 ^ j ≤ n := Nat.div_le_self _ _
      have hP10 : (if j = 0 then 0 else ((10 ^ (j - 1) : Nat) : Int)) = ((10 ^ j : Nat) : Int) / 10 := by
        by_cases z : j = 0
        · subst z; rfl
        · rw [if_neg z]
          have : 10 ^ j = 10 * 10 ^ (j - 1) := by rw [← Nat.pow_succ']; congr 1; omega
          rw [this]; omega
      rw [hP10]
      generalize 10 ^ j = P at hp hp2 hle e1 ⊢
      rw [if_pos (by rw [L_cmp_gt]; omega), jdv_in (by omega), Option.bind_some, L_div_n (by omega) (by omega) (by omega) (by omega), ← Int.natCast_ediv]
      generalize n / P = y at hle e1 ⊢
      rw [jdv_in (by omega), Option.bind_some, L_rem_n (by omega) (by omega) (by omega) (by omega), l2i_p, W32_in (z := (y : Int) % 10) (by omega) (by omega), W32_in (by omega) (by omega), show (48 : Int) + (y : Int) % 10 = 48 + ((y % 10 : Nat) : Int) by omega, e1, Option.bind_some, jdv_in (by omega), Option.bind_some, L_div_n (by omega) (by omega) (by omega) (by omega)]
    · have : l ++ dgF n (j + 1) = (l ++ [48 + ((n / 10 ^ j % 10 : Nat) : Int)]) ++ dgF n j := by rw [List.append_assoc]; rfl
      rw [this]; exact h2
theorem t_sayDec (hx : -2147483648 ≤ x ∧ x ≤ 2147483647) (h : pTx t V l f) (hl : l.length + (decL x).length ≤ 80) : ∃ u, m_X38_sayDecimal t V x = some (u, 0) ∧ pTx u V (l ++ decL x) f ∧ tFr t u V := by
  have hd := dgN_lo (n := x.natAbs)
  have hlen := decL_len x
  have key : ∀ (t : jS) (l : List Int), pTx t V l f → l.length + dgN x.natAbs ≤ 80 → ∃ u, u_X38_sayDecimal_22 t V x.natAbs = some (u, 0) ∧ pTx u V (l ++ dgF x.natAbs (dgN x.natAbs)) f ∧ tFr t u V := by
    intro t l h hl
    rw [eu_X38_sayDecimal_22]; unfold du_X38_sayDecimal_22
    rw [eu_X38_sayDecimal_26]; unfold du_X38_sayDecimal_26
    have := t_dec1 (t := t) (V := V) (n := x.natAbs) (by omega) (dgN x.natAbs - 1) 0 (by omega)
    rw [show ((10 ^ 0 : Nat) : Int) = 1 by rfl] at this
    rw [this, eu_X38_sayDecimal_48]; unfold du_X38_sayDecimal_48
    have q := t_dec2 (V := V) (f := f) (n := x.natAbs) (by omega) (dgN x.natAbs) t l (by omega) h hl
    rw [if_neg (by omega)] at q
    exact q
  rw [em_X38_sayDecimal]; unfold dm_X38_sayDecimal
  unfold decL
  by_cases c : x < 0
  · rw [if_pos c] at hlen
    rw [if_pos c, if_pos c]
    obtain ⟨t1, e1, h1, f1⟩ := t_say (c := 45) h (by omega)
    obtain ⟨u, e2, h2, f2⟩ := key t1 _ h1 (by rw [List.length_append]; show l.length + 1 + _ ≤ 80; omega)
    refine ⟨u, ?_, ?_, f1.trans f2⟩
    · rw [e1, Option.bind_some, eu_X38_sayDecimal_10]; unfold du_X38_sayDecimal_10
      rw [if_pos c, W64_in (by omega) (by omega), show -x = (x.natAbs : Int) by omega, e2]
    · rw [List.append_assoc] at h2; exact h2
  · rw [if_neg c] at hlen
    rw [if_neg c, if_neg c]
    obtain ⟨u, e2, h2, f2⟩ := key t l h (by omega)
    refine ⟨u, ?_, h2, f2⟩
    rw [eu_X38_sayDecimal_10]; unfold du_X38_sayDecimal_10
    rw [if_neg c]
    rw [show (x.natAbs : Int) = x by omega] at e2
    exact e2
end jSay
