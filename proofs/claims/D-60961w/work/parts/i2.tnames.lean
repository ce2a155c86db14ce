/-! the twin's names of kinds *-/
set_option maxRecDepth 100000
section jTnam
variable {s t u : jS} {A H b lo W V x y k c a hh x2 x4 C v : Int} {l nm : List Int} {NL : List (List Int)} {I : pI} {OL : List pvO} {SL : List pvS}
def cdC (c : Int) : Int := if c = 46 then 37 else if 97 ≤ c ∧ c ≤ 122 then c - 96 else if 48 ≤ c ∧ c ≤ 57 then c - 21 else 0
theorem cdC_is : v_X38_codeOf c = cdC c := by
  unfold v_X38_codeOf cdC
  by_cases h1 : c = 46
  · rw [if_pos h1, if_pos h1]
  rw [if_neg h1, if_neg h1]
  by_cases h2 : c < 97
  · rw [if_pos h2, if_neg (show ¬ (97 ≤ c ∧ c ≤ 122) by omega)]
    by_cases h3 : c < 48
    · rw [if_pos h3, if_neg (by omega)]
    rw [if_neg h3]
    by_cases h4 : 57 < c
    · rw [if_pos h4, if_neg (by omega)]
    · rw [if_neg h4, if_pos (by omega), W32_in (z := c - 48) (by omega) (by omega), W32_in (by omega) (by omega)]; omega
  rw [if_neg h2]
  by_cases h3 : 122 < c
  · rw [if_pos h3, if_neg (show ¬ (97 ≤ c ∧ c ≤ 122) by omega), if_neg (show ¬ c < 48 by omega), if_pos (by omega), if_neg (by omega)]
  · rw [if_neg h3, if_pos (show 97 ≤ c ∧ c ≤ 122 by omega), W32_in (z := c - 97) (by omega) (by omega), W32_in (by omega) (by omega)]; omega
theorem cdC_lo : 0 ≤ cdC c ∧ cdC c ≤ 37 := by unfold cdC; split <;> (try split) <;> (try split) <;> omega
theorem cdC_inj {e : Int} (h : ¬ cdC c = 0) (he : ¬ cdC e = 0) (q : cdC c = cdC e) : c = e := by
  unfold cdC at *
  split at * <;> (try split at *) <;> (try split at *) <;> (try split at *) <;> (try split at *) <;> (try split at *) <;> omega
theorem nB_t {i : Nat} (hx : j64 x) (hy : j64 y) (h : i < 16) : (if (i : Int) < 8 then u_X38_named_33 t x y a k i x else u_X38_named_33 t x y a k i y) = (if nB x y i = 0 then some (.inl (t, [x, y, a, k, (i : Int) + 1])) else if cdC (nB x y i) = 0 then jinr (some (t, -1)) else if k = 11 then jinr (some (t, -1)) else some (.inl (t, [x, y, W64 (W64 (40 * a) + cdC (nB x y i)), W32 (k + 1), (i : Int) + 1]))) := by
  have key : ∀ z, L2i (L_and (L_shr z (W32 (56 - W32 (8 * ((i : Int) % 8))))) 255) = nB x y i → u_X38_named_33 t x y a k i z = (if nB x y i = 0 then some (.inl (t, [x, y, a, k, (i : Int) + 1])) else if cdC (nB x y i) = 0 then jinr (some (t, -1)) else if k = 11 then jinr (some (t, -1)) else some (.inl (t, [x, y, W64 (W64 (40 * a) + cdC (nB x y i)), W32 (k + 1), (i : Int) + 1]))) := fun z hz => by
    rw [eu_X38_named_33]; unfold du_X38_named_33
    rw [jdv_in (by decide), Option.bind_some, I_rem_n (by omega) (by omega) (by decide) (by decide)]
    simp only [jlet]
    rw [hz, e_X38_codeOf, cdC_is, eu_X38_named_95]; unfold du_X38_named_95
    rw [W32_in (z := (i : Int) + 1) (by omega) (by omega)]
    by_cases c0 : nB x y i = 0
    · rw [if_pos c0, if_pos c0]
    rw [if_neg c0, if_neg c0, Option.bind_some, Option.bind_some]
  unfold nB at key ⊢
  by_cases c : i < 8
  · rw [if_pos (by omega)]
    rw [if_pos c] at key ⊢
    exact key x (by rw [show (i : Int) % 8 = i by omega]; exact bE_t hx (by omega) (by omega))
  · rw [if_neg (by omega)]
    rw [if_neg c] at key ⊢
    exact key y (by rw [show (i : Int) % 8 = ((i - 8 : Nat) : Int) by omega]; exact bE_t hy (by omega) (by omega))
/-- a name the twin can number -/
def cdd (l : List Int) : Prop := ∀ c ∈ l, ¬ cdC c = 0
theorem t_nm (hx : j64 x) (hy : j64 y) : ∀ (m i n : Nat) (a : Int), i + m = 16 → 0 ≤ a → a < ((40 ^ n : Nat) : Int) → n ≤ 11 →
    (cdd (nzS (nB x y) m i) ∧ n + (nzS (nB x y) m i).length ≤ 11 → u_X38_named_14 t x y a n i = u_X38_named_101 t ((nzS (nB x y) m i).foldl (fun v c => 40 * v + cdC c) a)) ∧
    (¬ (cdd (nzS (nB x y) m i) ∧ n + (nzS (nB x y) m i).length ≤ 11) → u_X38_named_14 t x y a n i = some (t, -1))
  | 0, i, n, a, hi, a0, a1, hn => by
    have e : u_X38_named_14 t x y a n i = u_X38_named_101 t a := by
      rw [eu_X38_named_14]; unfold du_X38_named_14
      refine jlpW_r ?_
      show b_X38_named_14 t x y a n i = _
      unfold b_X38_named_14
      rw [if_neg (by omega)]
    exact ⟨fun _ => e, fun h => absurd ⟨fun c hc => absurd hc (by show ¬ c ∈ []; simp), by show n + 0 ≤ 11; omega⟩ h⟩
  | m + 1, i, n, a, hi, a0, a1, hn => by
    have bb : jc5 b_X38_named_14 [x, y, a, (n : Int), (i : Int)] t = (if (i : Int) < 8 then u_X38_named_33 t x y a n i x else u_X38_named_33 t x y a n i y) := by
      show b_X38_named_14 t x y a n i = _
      unfold b_X38_named_14
      rw [if_pos (by omega)]
    rw [nB_t hx hy (by omega)] at bb
    have back : ∀ (a' : Int) (n' : Int), jlpW (jc5 b_X38_named_14) [x, y, a', n', (i : Int) + 1] t = u_X38_named_14 t x y a' n' (i + 1) := fun a' n' => by rw [eu_X38_named_14]; rfl
    have hz : nzS (nB x y) (m + 1) i = if nB x y i = 0 then nzS (nB x y) m (i + 1) else nB x y i :: nzS (nB x y) m (i + 1) := rfl
    rw [hz, eu_X38_named_14]; unfold du_X38_named_14
    by_cases c0 : nB x y i = 0
    · rw [if_pos c0] at bb
      rw [jlpW_l bb, if_pos c0, back]
      have := t_nm hx hy m (i + 1) n a (by omega) a0 a1 hn
      rw [show ((i + 1 : Nat) : Int) = (i : Int) + 1 by omega] at this
      exact this
    rw [if_neg c0] at bb
    rw [if_neg c0]
    by_cases c1 : cdC (nB x y i) = 0
    · rw [if_pos c1] at bb
      rw [jlpW_r bb]
      exact ⟨fun h => absurd c1 (h.1 _ List.mem_cons_self), fun _ => rfl⟩
    rw [if_neg c1] at bb
    by_cases c2 : (n : Int) = 11
    · rw [if_pos c2] at bb
      rw [jlpW_r bb]
      refine ⟨fun h => ?_, fun _ => rfl⟩
      have := h.2
      rw [List.length_cons] at this
      omega
    rw [if_neg c2] at bb
    have l37 := cdC_lo (c := nB x y i)
    have h40 : (40 : Nat) ^ n ≤ 40 ^ 10 := Nat.pow_le_pow_right (by decide) (by omega)
    have e40 : (40 : Nat) ^ 10 = 10485760000000000 := by decide
    have w1 : W64 (W64 (40 * a) + cdC (nB x y i)) = 40 * a + cdC (nB x y i) := by
      rw [W64_in (z := 40 * a) (by omega) (by omega), W64_in (by omega) (by omega)]
    rw [w1, W32_in (z := (n : Int) + 1) (by omega) (by omega)] at bb
    rw [jlpW_l bb, back]
    obtain ⟨i1, i2⟩ := t_nm hx hy m (i + 1) (n + 1) (40 * a + cdC (nB x y i)) (by omega) (by omega) (by rw [Nat.pow_succ]; omega) (by omega)
    rw [show ((i + 1 : Nat) : Int) = (i : Int) + 1 by omega, show ((n + 1 : Nat) : Int) = (n : Int) + 1 by omega] at i1 i2
    refine ⟨fun h => ?_, fun h => ?_⟩
    · have hl := h.2
      rw [List.length_cons] at hl
      rw [i1 ⟨fun c hc => h.1 c (List.mem_cons_of_mem _ hc), by omega⟩]; rfl
    · refine i2 fun z => h ⟨fun c hc => ?_, by rw [List.length_cons]; omega⟩
      rcases List.mem_cons.mp hc with q | q
      · rw [q]; exact c1
      · exact z.1 c q
theorem t_104 : ∀ (m i : Nat), i + m = 75 → (∀ j : Nat, j < i → ¬ v_X38_nameOf j = a) → ∃ r : Int, u_X38_named_104 t a i = some (t, r) ∧ ((∃ i : Nat, r = i ∧ i < 75 ∧ v_X38_nameOf i = a ∧ ∀ j : Nat, j < i → ¬ v_X38_nameOf j = a) ∨ (r = -1 ∧ ∀ j : Nat, j < 75 → ¬ v_X38_nameOf j = a))
  | 0, i, hi, hj => by
    refine ⟨-1, ?_, .inr ⟨rfl, fun j hj' => hj j (by omega)⟩⟩
    rw [eu_X38_named_104]; unfold du_X38_named_104
    refine jlpW_r (r := some (t, -1)) ?_
    show b_X38_named_104 t a i = _
    unfold b_X38_named_104
    rw [if_neg (by omega)]
  | m + 1, i, hi, hj => by
    have bb : jc2 b_X38_named_104 [a, (i : Int)] t = if v_X38_nameOf i = a then jinr (some (t, (i : Int))) else some (.inl (t, [a, (i : Int) + 1])) := by
      show b_X38_named_104 t a i = _
      unfold b_X38_named_104
      rw [if_pos (by omega), e_X38_nameOf, Option.bind_some, W32_in (by omega) (by omega)]
      by_cases c : v_X38_nameOf i = a
      · rw [if_pos c, if_pos ((L_cmp_0 _ _).mpr c)]
      · rw [if_neg c, if_neg fun z => c ((L_cmp_0 _ _).mp z)]
    rw [eu_X38_named_104]; unfold du_X38_named_104
    by_cases c : v_X38_nameOf i = a
    · rw [if_pos c] at bb
      exact ⟨i, jlpW_r bb, .inl ⟨i, rfl, by omega, c, hj⟩⟩
    · rw [if_neg c] at bb
      obtain ⟨r, r1, r2⟩ := t_104 m (i + 1) (by omega) fun j hj' => by
        by_cases cj : j = i
        · subst cj; exact c
        · exact hj j (by omega)
      refine ⟨r, ?_, r2⟩
      rw [eu_X38_named_104] at r1; unfold du_X38_named_104 at r1
      rw [jlpW_l bb]
      rw [show ((i + 1 : Nat) : Int) = (i : Int) + 1 by omega] at r1
      exact r1
theorem kind_codes : ∀ k : Nat, k < 75 → v_X38_nameOf k = cdf 40 cdC (cS (73 + k)) ∧ (cS (73 + k)).length ≤ 11 ∧ ∀ c ∈ cS (73 + k), ¬ cdC c = 0 := by decide +kernel
theorem t_named (hx : j64 x) (hy : j64 y) (hn : nzS (nB x y) 16 0 = l) : ∃ r, m_X38_named t V x y = some (jp t 42 V 0 0, r) ∧ isIx 73 75 l r := by
  rw [em_X38_named]; unfold dm_X38_named
  simp only [jls]
  obtain ⟨h1, h2⟩ := t_nm (t := jp t 42 V 0 0) hx hy 16 0 0 0 (by omega) (by omega) (by decide) (by omega)
  rw [hn] at h1 h2
  by_cases c : cdd l ∧ 0 + l.length ≤ 11
  · have e1 : u_X38_named_14 (jp t 42 V 0 0) x y 0 0 0 = u_X38_named_101 (jp t 42 V 0 0) (cdf 40 cdC l) := h1 c
    obtain ⟨r, r1, r2⟩ := t_104 (t := jp t 42 V 0 0) (a := cdf 40 cdC l) 75 0 (by omega) (fun j hj => by omega)
    have same : ∀ j : Nat, j < 75 → (v_X38_nameOf j = cdf 40 cdC l ↔ l = cS (73 + j)) := fun j hj => by
      obtain ⟨k1, k2, k3⟩ := kind_codes j hj
      rw [k1]
      refine ⟨fun e => (cdf_inj (B := 40) (d := cdC) (S := fun c => ¬ cdC c = 0) (by decide) (fun c hc => by have := cdC_lo (c := c); omega) (fun c e hc he q => cdC_inj hc he q) k3 c.1 e).symm, fun e => by rw [e]⟩
    refine ⟨r, ?_, ?_⟩
    · rw [e1, eu_X38_named_101]; unfold du_X38_named_101
      exact r1
    · rcases r2 with ⟨i, q1, q2, q3, q4⟩ | ⟨q1, q2⟩
      · exact .inl ⟨i, q1, q2, (same i q2).mp q3, fun j hj z => q4 j hj ((same j (by omega)).mpr z)⟩
      · exact .inr ⟨q1, fun j hj z => q2 j hj ((same j hj).mpr z)⟩
  · have e1 : u_X38_named_14 (jp t 42 V 0 0) x y 0 0 0 = some (jp t 42 V 0 0, -1) := h2 c
    refine ⟨-1, e1, .inr ⟨rfl, fun j hj z => c ?_⟩⟩
    obtain ⟨k1, k2, k3⟩ := kind_codes j hj
    rw [z]
    exact ⟨k3, by omega⟩
/-- packed low, one letter more -/
theorem or_low {P : List Int} (hP : pkB P) (hl : P.length < 8) (c0 : 0 ≤ c) (c1 : c < 128) : L_or (L_shl (pk P) 8) c = pk (P ++ [c]) ∧ j64 (pk (P ++ [c])) := by
  obtain ⟨h0, h⟩ := hP
  have up : pk P < 128 * 281474976710656 := by
    rcases h with h | ⟨n, n1, n2⟩
    · rw [h]; decide
    · have : (256 : Nat) ^ n ≤ 256 ^ 6 := Nat.pow_le_pow_right (by decide) (by omega)
      have e6 : (256 : Nat) ^ 6 = 281474976710656 := by decide
      have e7 : ((256 ^ n : Nat) : Int) = (256 : Int) ^ n := by rw [Int.natCast_pow]; rfl
      omega
  rw [pk_app, l_shl_p (by omega) (by omega), show (2 : Int) ^ (8 : Int).toNat = 256 from rfl, W64_in (by omega) (by omega), L_or_hi 8 (by omega) (by rw [show (2 : Int) ^ 8 = 256 from rfl]; omega) c0 (by rw [show (2 : Int) ^ 8 = 256 from rfl]; omega), W64_in (by omega) (by omega)]
  refine ⟨by omega, ?_⟩
  unfold j64; omega
theorem pkL_s (h : lts l) {i : Nat} (hi : i < l.length) (h8 : i < 8) : L_or (L_shl (pk ((l.take i).take 8)) 8) (l.getD i 0) = pk ((l.take (i + 1)).take 8) ∧ (l.take (i + 1)).drop 8 = (l.take i).drop 8 ∧ j64 (pk ((l.take (i + 1)).take 8)) := by
  have hc := h.2 (l.getD i 0) (by rw [List.getD_eq_getElem?_getD, List.getElem?_eq_getElem hi]; exact List.getElem_mem _)
  have hP : ∀ c ∈ l.take i, 1 ≤ c ∧ c < 128 := fun c hc => h.2 c (List.mem_of_mem_take hc)
  have li : (l.take i).length = i := by rw [List.length_take]; omega
  have li1 : (l.take (i + 1)).length = i + 1 := by rw [List.length_take]; omega
  have t1 : (l.take i).take 8 = l.take i := List.take_of_length_le (by omega)
  have t2 : (l.take (i + 1)).take 8 = l.take (i + 1) := List.take_of_length_le (by omega)
  have d1 : (l.take i).drop 8 = [] := List.drop_eq_nil_of_le (by omega)
  have d2 : (l.take (i + 1)).drop 8 = [] := List.drop_eq_nil_of_le (by omega)
  rw [t1, t2, d1, d2]
  obtain ⟨o1, o2⟩ := or_low (c := l.getD i 0) (pkB_of hP) (by omega) (by omega) hc.2
  rw [← take_1 hi] at o1 o2
  exact ⟨o1, rfl, o2⟩
theorem pkL_t (h : lts l) {i : Nat} (hi : i < l.length) (h8 : 8 ≤ i) : L_or (L_shl (pk ((l.take i).drop 8)) 8) (l.getD i 0) = pk ((l.take (i + 1)).drop 8) ∧ (l.take (i + 1)).take 8 = (l.take i).take 8 ∧ j64 (pk ((l.take (i + 1)).drop 8)) := by
  have hl := h.1
  have hc := h.2 (l.getD i 0) (by rw [List.getD_eq_getElem?_getD, List.getElem?_eq_getElem hi]; exact List.getElem_mem _)
  have hP : ∀ c ∈ (l.take i).drop 8, 1 ≤ c ∧ c < 128 := fun c hc => h.2 c (List.mem_of_mem_take (List.mem_of_mem_drop hc))
  have t1 : (l.take (i + 1)).take 8 = (l.take i).take 8 := by rw [List.take_take, List.take_take]; congr 1; omega
  have d1 : (l.take (i + 1)).drop 8 = (l.take i).drop 8 ++ [l.getD i 0] := by
    rw [take_1 hi, List.drop_append_of_le_length (by rw [List.length_take]; omega)]
  obtain ⟨o1, o2⟩ := or_low (c := l.getD i 0) (pkB_of hP) (by rw [List.length_drop, List.length_take]; omega) (by omega) hc.2
  rw [← d1] at o1 o2
  exact ⟨o1, t1, o2⟩
/-- the twin's words, one behind the other -/
def wCh (t : jS) (x2 x4 : Int) : List (Int × Int) → Option (jS × Int)
  | [] => some (t, -1)
  | e :: L => if x4 = 0 ∧ x2 = e.1 then some (t, e.2) else wCh t x2 x4 L
theorem w_step {un : Option (jS × Int)} {L : List (Int × Int)} (hn : un = wCh s x2 x4 L) : (if L_cmp x4 0 = 0 then if L_cmp x2 C = 0 then some (s, v) else un else un) = wCh s x2 x4 ((C, v) :: L) := by
  show _ = if x4 = 0 ∧ x2 = C then some (s, v) else wCh s x2 x4 L
  rw [← hn]
  by_cases c1 : x4 = 0
  · rw [if_pos ((L_cmp_0 _ _).mpr c1)]
    by_cases c2 : x2 = C
    · rw [if_pos ((L_cmp_0 _ _).mpr c2), if_pos ⟨c1, c2⟩]
    · rw [if_neg fun z => c2 ((L_cmp_0 _ _).mp z), if_neg fun z => c2 z.2]
  · rw [if_neg fun z => c1 ((L_cmp_0 _ _).mp z), if_neg fun z => c1 z.1]
/-- n constants from lo are b, b + 1 .. -/
def wLs (lo : Nat) (bs : Int) : Nat → Nat → List (Int × Int)
  | 0, _ => []
  | m + 1, i => (pk (cS (lo + i)), bs + i) :: wLs lo bs m (i + 1)
theorem wLs_spec {lo n : Nat} {bs : Int} {R : List (Int × Int)} (h : lts l) (hc : ∀ j, j < n → (cS (lo + j)).length ≤ 8 ∧ ∀ c ∈ cS (lo + j), 1 ≤ c ∧ c < 128) : ∀ (m i : Nat), i + m = n → (∀ j, j < i → ¬ l = cS (lo + j)) →
    (∃ r : Nat, isIx lo n l r ∧ wCh t (pk (l.take 8)) (pk (l.drop 8)) (wLs lo bs m i ++ R) = some (t, bs + r)) ∨ (isIx lo n l (-1) ∧ wCh t (pk (l.take 8)) (pk (l.drop 8)) (wLs lo bs m i ++ R) = wCh t (pk (l.take 8)) (pk (l.drop 8)) R)
  | 0, i, hi, hj => .inr ⟨.inr ⟨rfl, fun j hj' => hj j (by omega)⟩, rfl⟩
  | m + 1, i, hi, hj => by
    have e : wCh t (pk (l.take 8)) (pk (l.drop 8)) (wLs lo bs (m + 1) i ++ R) = if pk (l.drop 8) = 0 ∧ pk (l.take 8) = pk (cS (lo + i)) then some (t, bs + i) else wCh t (pk (l.take 8)) (pk (l.drop 8)) (wLs lo bs m (i + 1) ++ R) := rfl
    rw [e]
    obtain ⟨c1, c2⟩ := hc i (by omega)
    have iff1 : (pk (l.drop 8) = 0 ∧ pk (l.take 8) = pk (cS (lo + i))) ↔ l = cS (lo + i) := by
      constructor
      · rintro ⟨z1, z2⟩
        have dn : l.drop 8 = [] := by
          by_cases q : l.drop 8 = []
          · exact q
          · have := pk_nn (fun c hc => by have := h.2 c (List.mem_of_mem_drop hc); omega) q
            omega
        have l8 : l.length ≤ 8 := by rw [List.drop_eq_nil_iff] at dn; exact dn
        rw [List.take_of_length_le l8] at z2
        exact pk_inj (fun c hc => by have := h.2 c hc; omega) (fun c hc => by have := c2 c hc; omega) z2
      · intro z
        rw [z, List.drop_eq_nil_of_le c1, List.take_of_length_le c1]
        exact ⟨rfl, rfl⟩
    by_cases c : l = cS (lo + i)
    · rw [if_pos (iff1.mpr c)]
      exact .inl ⟨i, .inl ⟨i, rfl, by omega, c, hj⟩, rfl⟩
    · rw [if_neg fun z => c (iff1.mp z)]
      exact wLs_spec h hc m (i + 1) (by omega) fun j hj' => by
        by_cases cj : j = i
        · subst cj; exact c
        · exact hj j (by omega)
end jTnam
