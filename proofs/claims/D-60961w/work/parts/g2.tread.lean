/-! the twin reads a text; what it keeps -/
section jTread
variable {s t u w v' : jS} {U n p p' q' r k c f v y e d o z a a' b' pl N ln cnt : Int} {g : Int → Int} {l m : List Int} {NL : List (List Int)} {W : wR4} {st st' : pS} {I I' E L L1 L2 : pI} {D D' : Int → Prop} {q : qS} {OL : List pvO} {SL SL0 : List pvS} {x : pvS} {b : pvB} {R R' : Int → Int → Int}
/-- the rows' halves -/
def kN (a : Int) : Int := if a = 3 then 4 else if a = 4 then 2400 else if a = 5 then 5600 else if a = 6 then 4000 else if a = 7 then 2400 else if a = 8 then 150 else if a = 9 then 3000 else 800
/-- a book in rows -/
def bkR (R : Int → Int → Int) (NL : List (List Int)) (I : pI) (OL : List pvO) (SL : List pvS) : Prop :=
  (R 3 0 = SL.length ∧ SL.length ≤ 400 ∧ ∀ i : Nat, i < SL.length → R 4 (6 * i) = (SL.getD i sZ).1 ∧ R 4 (6 * i + 1) = (SL.getD i sZ).2.1 ∧ R 4 (6 * i + 2) = (SL.getD i sZ).2.2.1 ∧ R 4 (6 * i + 3) = (SL.getD i sZ).2.2.2.1 ∧ R 4 (6 * i + 4) = (SL.getD i sZ).2.2.2.2.1 ∧ R 4 (6 * i + 5) = (SL.getD i sZ).2.2.2.2.2) ∧
  (R 3 1 = OL.length ∧ OL.length ≤ 800 ∧ ∀ i : Nat, i < OL.length → R 5 (7 * i) = (OL.getD i oZ).1 ∧ R 5 (7 * i + 1) = (OL.getD i oZ).2.1 ∧ R 5 (7 * i + 2) = (OL.getD i oZ).2.2.1 ∧ R 5 (7 * i + 3) = (OL.getD i oZ).2.2.2.1 ∧ R 5 (7 * i + 4) = (OL.getD i oZ).2.2.2.2.1 ∧ R 5 (7 * i + 5) = (OL.getD i oZ).2.2.2.2.2.1 ∧ R 5 (7 * i + 6) = (OL.getD i oZ).2.2.2.2.2.2.length ∧ (¬ (OL.getD i oZ).2.2.2.2.2.2 = [] → 0 ≤ R 16 i ∧ R 16 i + (OL.getD i oZ).2.2.2.2.2.2.length ≤ 3000 ∧ ∀ j : Nat, j < (OL.getD i oZ).2.2.2.2.2.2.length → R 9 (R 16 i + j) = (OL.getD i oZ).2.2.2.2.2.2.getD j 0)) ∧
  (R 3 2 = I.length ∧ I.length ≤ 2000 ∧ ∀ i : Nat, i < I.length → R 6 (2 * i) = (I.getD i (0, 0)).1 ∧ R 6 (2 * i + 1) = (I.getD i (0, 0)).2) ∧
  (R 3 3 = NL.length ∧ NL.length ≤ 150 ∧ ∀ i : Nat, i < NL.length → (NL.getD i []).length ≤ 16 ∧ R 8 i = (NL.getD i []).length ∧ ∀ j : Nat, j < (NL.getD i []).length → R 7 (16 * i + j) = (NL.getD i []).getD j 0)
theorem bkR.cg (h : bkR R NL I OL SL) (e : ∀ a k, (3 ≤ a ∧ a ≤ 9 ∨ a = 16) → 0 ≤ k → k < kN a → R' a k = R a k) : bkR R' NL I OL SL := by
  obtain ⟨⟨a1, a2, a3⟩, ⟨b1, b2, b3⟩, ⟨c1, c2, c3⟩, d1, d2, d3⟩ := h
  have e3 : ∀ k, 0 ≤ k → k < 4 → R' 3 k = R 3 k := fun k => e 3 k (by omega)
  have e4 : ∀ k, 0 ≤ k → k < 2400 → R' 4 k = R 4 k := fun k => e 4 k (by omega)
  have e5 : ∀ k, 0 ≤ k → k < 5600 → R' 5 k = R 5 k := fun k => e 5 k (by omega)
  have e6 : ∀ k, 0 ≤ k → k < 4000 → R' 6 k = R 6 k := fun k => e 6 k (by omega)
  have e7 : ∀ k, 0 ≤ k → k < 2400 → R' 7 k = R 7 k := fun k => e 7 k (by omega)
  have e8 : ∀ k, 0 ≤ k → k < 150 → R' 8 k = R 8 k := fun k => e 8 k (by omega)
  have e9 : ∀ k, 0 ≤ k → k < 3000 → R' 9 k = R 9 k := fun k => e 9 k (by omega)
  have e16 : ∀ k, 0 ≤ k → k < 800 → R' 16 k = R 16 k := fun k => e 16 k (by omega)
  refine ⟨⟨by rw [e3 _ (by omega) (by omega)]; exact a1, a2, fun i hi => ?_⟩, ⟨by rw [e3 _ (by omega) (by omega)]; exact b1, b2, fun i hi => ?_⟩, ⟨by rw [e3 _ (by omega) (by omega)]; exact c1, c2, fun i hi => ?_⟩, by rw [e3 _ (by omega) (by omega)]; exact d1, d2, fun i hi => ?_⟩
  · rw [e4 _ (by omega) (by omega), e4 _ (by omega) (by omega), e4 _ (by omega) (by omega), e4 _ (by omega) (by omega), e4 _ (by omega) (by omega), e4 _ (by omega) (by omega)]; exact a3 i hi
  · obtain ⟨x0, x1, x2, x3, x4, x5, x6, x7⟩ := b3 i hi
    rw [e5 _ (by omega) (by omega), e5 _ (by omega) (by omega), e5 _ (by omega) (by omega), e5 _ (by omega) (by omega), e5 _ (by omega) (by omega), e5 _ (by omega) (by omega), e5 _ (by omega) (by omega)]
    refine ⟨x0, x1, x2, x3, x4, x5, x6, fun hz => ?_⟩
    obtain ⟨y1, y2, y3⟩ := x7 hz
    rw [e16 _ (by omega) (by omega)]
    exact ⟨y1, y2, fun j hj => by rw [e9 _ (by omega) (by omega)]; exact y3 j hj⟩
  · rw [e6 _ (by omega) (by omega), e6 _ (by omega) (by omega)]; exact c3 i hi
  · obtain ⟨x0, x1, x2⟩ := d3 i hi
    rw [e8 _ (by omega) (by omega)]
    exact ⟨x0, x1, fun j hj => by rw [e7 _ (by omega) (by omega)]; exact x2 j hj⟩
theorem tB.bkR (T : tB t U g n st I) (B : bkT t U OL SL ln) (h12 : jf t 43 U 12 ≤ 3000) : bkR (fun a k => jf t 1000 (U + a) k) st.2.1 I OL SL := by
  obtain ⟨b1, b2, b3, b4, b5, b6, b7⟩ := B
  obtain ⟨i1, i2⟩ := T.itl
  refine ⟨⟨b6, b5, fun i hi => b4 i hi⟩, ⟨b3, b2, fun i hi => ?_⟩, ⟨i1, by omega, fun i hi => T.2.2.2.2.2.2.1.2 i hi⟩, T.2.2.2.2.1⟩
  obtain ⟨⟨R0, R1, R2, R3, R5, R6⟩, R4, R7⟩ := b1 i hi
  exact ⟨R0, R1, R2, R3, R4, R5, R6, fun hz => by
    obtain ⟨s1, s2, s3⟩ := R7 hz
    exact ⟨s1, by show jf t 1000 (U + 16) i + _ ≤ 3000; omega, s3⟩⟩
/-- a row's lower half is copied up -/
theorem kp_loop {C : List Int → jS → Option ((jS × List Int) ⊕ (jS × Int))} {rr : jS → Option (jS × Int)} (hN : 0 ≤ N) (hC : ∀ u k, 0 ≤ k → k < N → C [U, k] u = some (.inl (jp u 1000 a (N + k) (jf u 1000 a k), [U, k + 1]))) (hE : ∀ u, C [U, N] u = jinr (rr u)) (t : jS) : ∃ w, jlpW C [U, 0] t = rr w ∧ jSm t w ∧ (∀ (c b j : Int), ¬ (c = 1000 ∧ b = a ∧ N ≤ j ∧ j < 2 * N) → jf w c b j = jf t c b j) ∧ ∀ j, 0 ≤ j → j < N → jf w 1000 a (N + j) = jf t 1000 a j := by
  obtain ⟨w, e1, J1, F, J3⟩ := jstepS (A := C) (t := t) (fun k w => jSm t w ∧ (∀ (c b j : Int), ¬ (c = 1000 ∧ b = a ∧ N ≤ j ∧ j < 2 * N) → jf w c b j = jf t c b j) ∧ ∀ j, 0 ≤ j → j < k → jf w 1000 a (N + j) = jf t 1000 a j) (fun k => [U, k]) 0 N hN ⟨jSm.rfl, fun _ _ _ _ => rfl, fun j j0 j1 => by omega⟩ (fun k u k0 k1 J => by
    obtain ⟨J1, F, J3⟩ := J
    refine ⟨_, hC u k k0 k1, J1.jp, fun c b j z => by rw [jf_neg (fun q => z ⟨q.1, q.2.1, by omega, by omega⟩)]; exact F c b j z, fun j j0 j1 => ?_⟩
    by_cases cj : j = k
    · rw [cj, jf_pos ⟨rfl, rfl, rfl⟩]; exact F _ _ _ (by omega)
    · rw [jf_neg (by omega)]; exact J3 j j0 (by omega))
  exact ⟨w, by rw [e1, jlpW_r (hE w)], J1, F, J3⟩
theorem y_keep : ∃ w, m_X39_keep t U = some (w, 0) ∧ jSm t w ∧ (∀ c b j, ¬ (c = 1000 ∧ ∃ a, (3 ≤ a ∧ a ≤ 9 ∨ a = 16) ∧ b = U + a ∧ kN a ≤ j ∧ j < 2 * kN a) → jf w c b j = jf t c b j) ∧ ∀ a k, (3 ≤ a ∧ a ≤ 9 ∨ a = 16) → 0 ≤ k → k < kN a → jf w 1000 (U + a) (kN a + k) = jf t 1000 (U + a) k := by
  obtain ⟨w1, x1, S1, F1, G1⟩ := kp_loop (U := U) (C := jc2 b_X39_keep_2) (rr := fun u => u_X39_keep_27 u U) (a := U + 3) (N := 4) (by decide) (fun u k k0 k1 => by
    show b_X39_keep_2 u U k = _
    unfold b_X39_keep_2
    rw [if_pos k1, jlt_in (by omega) (by omega), Option.bind_some, W32_in (z := 4 + k) (by omega) (by omega), jst_in (by omega) (by omega), Option.bind_some, W32_in (z := k + 1) (by omega) (by omega)]) (fun u => by
    show b_X39_keep_2 u U 4 = _
    unfold b_X39_keep_2
    rw [if_neg (by decide)]) t
  obtain ⟨w2, x2, S2, F2, G2⟩ := kp_loop (U := U) (C := jc2 b_X39_keep_29) (rr := fun u => u_X39_keep_58 u U) (a := U + 4) (N := 2400) (by decide) (fun u k k0 k1 => by
    show b_X39_keep_29 u U k = _
    unfold b_X39_keep_29
    rw [if_pos k1, jlt_in (by omega) (by omega), Option.bind_some, W32_in (z := 2400 + k) (by omega) (by omega), jst_in (by omega) (by omega), Option.bind_some, W32_in (z := k + 1) (by omega) (by omega)]) (fun u => by
    show b_X39_keep_29 u U 2400 = _
    unfold b_X39_keep_29
    rw [if_neg (by decide)]) w1
  obtain ⟨w3, x3, S3, F3, G3⟩ := kp_loop (U := U) (C := jc2 b_X39_keep_60) (rr := fun u => u_X39_keep_89 u U) (a := U + 5) (N := 5600) (by decide) (fun u k k0 k1 => by
    show b_X39_keep_60 u U k = _
    unfold b_X39_keep_60
    rw [if_pos k1, jlt_in (by omega) (by omega), Option.bind_some, W32_in (z := 5600 + k) (by omega) (by omega), jst_in (by omega) (by omega), Option.bind_some, W32_in (z := k + 1) (by omega) (by omega)]) (fun u => by
    show b_X39_keep_60 u U 5600 = _
    unfold b_X39_keep_60
    rw [if_neg (by decide)]) w2
  obtain ⟨w4, x4, S4, F4, G4⟩ := kp_loop (U := U) (C := jc2 b_X39_keep_91) (rr := fun u => u_X39_keep_120 u U) (a := U + 6) (N := 4000) (by decide) (fun u k k0 k1 => by
    show b_X39_keep_91 u U k = _
    unfold b_X39_keep_91
    rw [if_pos k1, jlt_in (by omega) (by omega), Option.bind_some, W32_in (z := 4000 + k) (by omega) (by omega), jst_in (by omega) (by omega), Option.bind_some, W32_in (z := k + 1) (by omega) (by omega)]) (fun u => by
    show b_X39_keep_91 u U 4000 = _
    unfold b_X39_keep_91
    rw [if_neg (by decide)]) w3
  obtain ⟨w5, x5, S5, F5, G5⟩ := kp_loop (U := U) (C := jc2 b_X39_keep_122) (rr := fun u => u_X39_keep_151 u U) (a := U + 7) (N := 2400) (by decide) (fun u k k0 k1 => by
    show b_X39_keep_122 u U k = _
    unfold b_X39_keep_122
    rw [if_pos k1, jlt_in (by omega) (by omega), Option.bind_some, W32_in (z := 2400 + k) (by omega) (by omega), jst_in (by omega) (by omega), Option.bind_some, W32_in (z := k + 1) (by omega) (by omega)]) (fun u => by
    show b_X39_keep_122 u U 2400 = _
    unfold b_X39_keep_122
    rw [if_neg (by decide)]) w4
  obtain ⟨w6, x6, S6, F6, G6⟩ := kp_loop (U := U) (C := jc2 b_X39_keep_153) (rr := fun u => u_X39_keep_182 u U) (a := U + 8) (N := 150) (by decide) (fun u k k0 k1 => by
    show b_X39_keep_153 u U k = _
    unfold b_X39_keep_153
    rw [if_pos k1, jlt_in (by omega) (by omega), Option.bind_some, W32_in (z := 150 + k) (by omega) (by omega), jst_in (by omega) (by omega), Option.bind_some, W32_in (z := k + 1) (by omega) (by omega)]) (fun u => by
    show b_X39_keep_153 u U 150 = _
    unfold b_X39_keep_153
    rw [if_neg (by decide)]) w5
  obtain ⟨w7, x7, S7, F7, G7⟩ := kp_loop (U := U) (C := jc2 b_X39_keep_184) (rr := fun u => u_X39_keep_213 u U) (a := U + 9) (N := 3000) (by decide) (fun u k k0 k1 => by
    show b_X39_keep_184 u U k = _
    unfold b_X39_keep_184
    rw [if_pos k1, jlt_in (by omega) (by omega), Option.bind_some, W32_in (z := 3000 + k) (by omega) (by omega), jst_in (by omega) (by omega), Option.bind_some, W32_in (z := k + 1) (by omega) (by omega)]) (fun u => by
    show b_X39_keep_184 u U 3000 = _
    unfold b_X39_keep_184
    rw [if_neg (by decide)]) w6
  obtain ⟨w8, x8, S8, F8, G8⟩ := kp_loop (U := U) (C := jc2 b_X39_keep_215) (rr := fun u => some (u, 0)) (a := U + 16) (N := 800) (by decide) (fun u k k0 k1 => by
    show b_X39_keep_215 u U k = _
    unfold b_X39_keep_215
    rw [if_pos k1, jlt_in (by omega) (by omega), Option.bind_some, W32_in (z := 800 + k) (by omega) (by omega), jst_in (by omega) (by omega), Option.bind_some, W32_in (z := k + 1) (by omega) (by omega)]) (fun u => by
    show b_X39_keep_215 u U 800 = _
    unfold b_X39_keep_215
    rw [if_neg (by decide)]) w7
  refine ⟨w8, ?_, jSm.trans (jSm.trans (jSm.trans (jSm.trans (jSm.trans (jSm.trans (jSm.trans S1 S2) S3) S4) S5) S6) S7) S8, fun c b j z => ?_, fun a k ha k0 k1 => ?_⟩
  · rw [em_X39_keep]; unfold dm_X39_keep
    rw [eu_X39_keep_2]; unfold du_X39_keep_2
    rw [x1, eu_X39_keep_27]; unfold du_X39_keep_27
    rw [eu_X39_keep_29]; unfold du_X39_keep_29
    rw [x2, eu_X39_keep_58]; unfold du_X39_keep_58
    rw [eu_X39_keep_60]; unfold du_X39_keep_60
    rw [x3, eu_X39_keep_89]; unfold du_X39_keep_89
    rw [eu_X39_keep_91]; unfold du_X39_keep_91
    rw [x4, eu_X39_keep_120]; unfold du_X39_keep_120
    rw [eu_X39_keep_122]; unfold du_X39_keep_122
    rw [x5, eu_X39_keep_151]; unfold du_X39_keep_151
    rw [eu_X39_keep_153]; unfold du_X39_keep_153
    rw [x6, eu_X39_keep_182]; unfold du_X39_keep_182
    rw [eu_X39_keep_184]; unfold du_X39_keep_184
    rw [x7, eu_X39_keep_213]; unfold du_X39_keep_213
    rw [eu_X39_keep_215]; unfold du_X39_keep_215
    rw [x8]
  · rw [F8 c b j (fun q => z ⟨q.1, 16, .inr rfl, q.2⟩), F7 c b j (fun q => z ⟨q.1, 9, .inl (by decide), q.2⟩), F6 c b j (fun q => z ⟨q.1, 8, .inl (by decide), q.2⟩), F5 c b j (fun q => z ⟨q.1, 7, .inl (by decide), q.2⟩), F4 c b j (fun q => z ⟨q.1, 6, .inl (by decide), q.2⟩), F3 c b j (fun q => z ⟨q.1, 5, .inl (by decide), q.2⟩), F2 c b j (fun q => z ⟨q.1, 4, .inl (by decide), q.2⟩), F1 c b j (fun q => z ⟨q.1, 3, .inl (by decide), q.2⟩)]
  · have : a = 3 ∨ a = 4 ∨ a = 5 ∨ a = 6 ∨ a = 7 ∨ a = 8 ∨ a = 9 ∨ a = 16 := by omega
    rcases this with z | z | z | z | z | z | z | z <;> subst z
    · have k1 : k < 4 := k1
      show jf w8 1000 (U + 3) (4 + k) = _
      rw [F8 _ _ _ (by omega), F7 _ _ _ (by omega), F6 _ _ _ (by omega), F5 _ _ _ (by omega), F4 _ _ _ (by omega), F3 _ _ _ (by omega), F2 _ _ _ (by omega), G1 k k0 k1]
    · have k1 : k < 2400 := k1
      show jf w8 1000 (U + 4) (2400 + k) = _
      rw [F8 _ _ _ (by omega), F7 _ _ _ (by omega), F6 _ _ _ (by omega), F5 _ _ _ (by omega), F4 _ _ _ (by omega), F3 _ _ _ (by omega), G2 k k0 k1, F1 _ _ _ (by omega)]
    · have k1 : k < 5600 := k1
      show jf w8 1000 (U + 5) (5600 + k) = _
      rw [F8 _ _ _ (by omega), F7 _ _ _ (by omega), F6 _ _ _ (by omega), F5 _ _ _ (by omega), F4 _ _ _ (by omega), G3 k k0 k1, F2 _ _ _ (by omega), F1 _ _ _ (by omega)]
    · have k1 : k < 4000 := k1
      show jf w8 1000 (U + 6) (4000 + k) = _
      rw [F8 _ _ _ (by omega), F7 _ _ _ (by omega), F6 _ _ _ (by omega), F5 _ _ _ (by omega), G4 k k0 k1, F3 _ _ _ (by omega), F2 _ _ _ (by omega), F1 _ _ _ (by omega)]
    · have k1 : k < 2400 := k1
      show jf w8 1000 (U + 7) (2400 + k) = _
      rw [F8 _ _ _ (by omega), F7 _ _ _ (by omega), F6 _ _ _ (by omega), G5 k k0 k1, F4 _ _ _ (by omega), F3 _ _ _ (by omega), F2 _ _ _ (by omega), F1 _ _ _ (by omega)]
    · have k1 : k < 150 := k1
      show jf w8 1000 (U + 8) (150 + k) = _
      rw [F8 _ _ _ (by omega), F7 _ _ _ (by omega), G6 k k0 k1, F5 _ _ _ (by omega), F4 _ _ _ (by omega), F3 _ _ _ (by omega), F2 _ _ _ (by omega), F1 _ _ _ (by omega)]
    · have k1 : k < 3000 := k1
      show jf w8 1000 (U + 9) (3000 + k) = _
      rw [F8 _ _ _ (by omega), G7 k k0 k1, F6 _ _ _ (by omega), F5 _ _ _ (by omega), F4 _ _ _ (by omega), F3 _ _ _ (by omega), F2 _ _ _ (by omega), F1 _ _ _ (by omega)]
    · have k1 : k < 800 := k1
      show jf w8 1000 (U + 16) (800 + k) = _
      rw [G8 k k0 k1, F7 _ _ _ (by omega), F6 _ _ _ (by omega), F5 _ _ _ (by omega), F4 _ _ _ (by omega), F3 _ _ _ (by omega), F2 _ _ _ (by omega), F1 _ _ _ (by omega)]
end jTread
