/-! texts: what is asked, both sides *-/
section jAsk
variable {s t u w : jS} {T U b lo k j i o c a v n : Int} {NL : List (List Int)} {I : pI} {OL : List pvO} {SL : List pvS}
theorem jp_same (h : jf s c a k = v) : jp s c a k v = s := by
  have e : jw s (fun c' a' k' => if c' = c ∧ a' = a ∧ k' = k then v else jf s c' a' k') = jw s (jf s) := jw_ext fun c' a' k' => by
    by_cases z : c' = c ∧ a' = a ∧ k' = k
    · rw [if_pos z, z.1, z.2.1, z.2.2]; exact h.symm
    · rw [if_neg z]
  have e2 : jp s c a k v = jw s (fun c' a' k' => if c' = c ∧ a' = a ∧ k' = k then v else jf s c' a' k') := rfl
  rw [e2, e, jw_self]
def tS (SL : List pvS) (i : Int) : pvS := SL.getD i.toNat sZ
def tO (OL : List pvO) (i : Int) : pvO := OL.getD i.toNat oZ
def tI (I : pI) (i : Int) : Int × Int := I.getD i.toNat (0, 0)
def tNa (NL : List (List Int)) (i : Int) : List Int := NL.getD i.toNat []
def stQ1 (z : pvS) (w : Int) : Int := if w = 0 then z.1 else if w = 1 then z.2.1 else if w = 2 then z.2.2.1 else if w = 3 then z.2.2.2.1 else if w = 4 then z.2.2.2.2.1 else z.2.2.2.2.2
def opQ1 (z : pvO) (w : Int) : Int := if w = 0 then z.1 else if w = 1 then z.2.1 else if w = 2 then z.2.2.1 else if w = 3 then z.2.2.2.1 else if w = 4 then z.2.2.2.2.1 else if w = 5 then z.2.2.2.2.2.1 else z.2.2.2.2.2.2.length
/-- the component's book as asked -/
def cBk (s : jS) (T b lo : Int) (NL : List (List Int)) (I : pI) (OL : List pvO) (SL : List pvS) : Prop := jf s 15 T 5 = b ∧ bkP s b lo NL I OL SL
/-- the twin's -/
def yBk (t : jS) (U : Int) (NL : List (List Int)) (I : pI) (OL : List pvO) (SL : List pvS) : Prop := jf t 43 U 0 = 0 ∧ bkR (fun a k => jf t 1000 (U + a) (kN a + k)) NL I OL SL
theorem jld_i {ty : Int} (h0 : 0 ≤ a) (h1 : jK s a = ty) (h2 : 0 ≤ i) (h3 : i < jN s a) : jld s ty a i = some (jf s ty a i) := by unfold jld; rw [if_pos ⟨h0, h1, h2, h3⟩]
theorem nat_of (h0 : 0 ≤ i) : ∃ m : Nat, i = m ∧ i.toNat = m := ⟨i.toNat, by omega, rfl⟩
theorem c_count (h : cBk s T b lo NL I OL SL) : m_X11_count s T 0 = some (SL.length : Int) := by
  obtain ⟨e, B, N, hI, hO, s1, s2, s3⟩ := h
  rw [em_X11_count]; unfold dm_X11_count
  rw [if_pos rfl, e, jrd_in B.1.1 B.1.2.2, Option.bind_some, s1]
theorem c_statement {w : Int} (h : cBk s T b lo NL I OL SL) (h0 : 0 ≤ k) (h1 : k < SL.length) (w0 : 0 ≤ w) (w1 : w ≤ 5) : m_X11_statement s T k w = some (stQ1 (tS SL k) w) := by
  obtain ⟨e, B, N, hI, hO, s1, s2, s3⟩ := h
  obtain ⟨m, rfl, hm⟩ := nat_of h0
  have hm' : m < SL.length := by omega
  obtain ⟨⟨t0, t1, t2⟩, t3⟩ := s3 m hm'
  have f0 := B.2.1.1
  have k1 := B.2.2.1
  have b0 := B.1
  rw [em_X11_statement]; unfold dm_X11_statement
  rw [em_X11_statementOf]; unfold dm_X11_statementOf
  rw [if_neg (by omega), e, jrd_in b0.1 b0.2.2, Option.bind_some, s1, if_pos (by omega), jrd_in b0.1 b0.2.2, Option.bind_some, f0, jld_i (by omega) k1.1 (by omega) (by omega), Option.bind_some, Option.bind_some, if_neg (by omega)]
  unfold tS stQ1
  rw [hm]
  have key : ∀ {q v : Int}, jf s 62 (jf s 1025 (b + 1) m) q = v → ((jrd s 62 (jf s 1025 (b + 1) m) q).bind fun v => some v) = some v := fun hv => by rw [jrd_in t0 t2, Option.bind_some, hv]
  by_cases c0 : w = 0
  · rw [if_pos c0, if_pos c0]; exact key t3.1
  rw [if_neg c0, if_neg c0]
  by_cases c1 : w = 1
  · rw [if_pos c1, if_pos c1]; exact key t3.2.1
  rw [if_neg c1, if_neg c1]
  by_cases c2 : w = 2
  · rw [if_pos c2, if_pos c2]; exact key t3.2.2.1
  rw [if_neg c2, if_neg c2]
  by_cases c3 : w = 3
  · rw [if_pos c3, if_pos c3]; exact key t3.2.2.2.1
  rw [if_neg c3, if_neg c3]
  by_cases c4 : w = 4
  · rw [if_pos c4, if_pos c4]; exact key t3.2.2.2.2.1
  rw [if_neg c4, if_neg c4, if_pos (by omega)]; exact key t3.2.2.2.2.2
theorem c_operand {w : Int} (h : cBk s T b lo NL I OL SL) (h0 : 0 ≤ k) (h1 : k < OL.length) (w0 : 0 ≤ w) (w1 : w ≤ 6) (hl : (tO OL k).2.2.2.2.2.2.length ≤ 1000000) : m_X11_operand s T k w = some (opQ1 (tO OL k) w) := by
  obtain ⟨e, B, N, hI, ⟨o1, o2, o3⟩, s1, s2, s3⟩ := h
  obtain ⟨m, rfl, hm⟩ := nat_of h0
  have hm' : m < OL.length := by omega
  unfold tO at hl ⊢
  rw [hm] at hl ⊢
  obtain ⟨⟨t0, t1, t2⟩, t3, t4, t5⟩ := o3 m hm'
  have f0 := B.2.1.2.1
  have k1 := B.2.2.2.1
  have b0 := B.1
  rw [em_X11_operand]; unfold dm_X11_operand
  rw [em_X11_operandOf]; unfold dm_X11_operandOf
  rw [if_neg (by omega), e, jrd_in b0.1 b0.2.2, Option.bind_some, o1, if_pos (by omega), jrd_in b0.1 b0.2.2, Option.bind_some, f0, jld_i (by omega) k1.1 (by omega) (by omega), Option.bind_some, Option.bind_some, if_neg (by omega)]
  unfold opQ1
  have key : ∀ {q v : Int}, jf s 63 (jf s 1024 (b + 2) m) q = v → ((jrd s 63 (jf s 1024 (b + 2) m) q).bind fun v => some v) = some v := fun hv => by rw [jrd_in t0 t2, Option.bind_some, hv]
  by_cases c0 : w = 0
  · rw [if_pos c0, if_pos c0]; exact key t3.1
  rw [if_neg c0, if_neg c0]
  by_cases c1 : w = 1
  · rw [if_pos c1, if_pos c1]; exact key t3.2.1
  rw [if_neg c1, if_neg c1]
  by_cases c2 : w = 2
  · rw [if_pos c2, if_pos c2]; exact key t3.2.2.1
  rw [if_neg c2, if_neg c2]
  by_cases c3 : w = 3
  · rw [if_pos c3, if_pos c3]; exact key t3.2.2.2.1
  rw [if_neg c3, if_neg c3]
  by_cases c4 : w = 4
  · rw [if_pos c4, if_pos c4]; exact key t3.2.2.2.2.1
  rw [if_neg c4, if_neg c4]
  by_cases c5 : w = 5
  · rw [if_pos c5, if_pos c5]; exact key t3.2.2.2.2.2
  rw [if_neg c5, if_neg c5, if_pos (by omega), jrd_in t0 t2, Option.bind_some, s_len t4 (by omega), Option.bind_some]
theorem c_item {w : Int} (h : cBk s T b lo NL I OL SL) (h0 : 0 ≤ k) (h1 : k < I.length) (hI2 : I.length ≤ 2000) (w0 : w = 0 ∨ w = 1) : m_X11_item s T k w = some (if w = 0 then (tI I k).1 else (tI I k).2) := by
  obtain ⟨e, B, N, ⟨i1, i2⟩, hO, s1, s2, s3⟩ := h
  obtain ⟨m, rfl, hm⟩ := nat_of h0
  have hm' : m < I.length := by omega
  have f2 := B.2.1.2.2.1
  have f3 := B.2.1.2.2.2.1
  have k2 := B.2.2.2.2.1
  have k3 := B.2.2.2.2.2.1
  have b0 := B.1
  obtain ⟨q1, q2⟩ := i2 m hm'
  rw [em_X11_item]; unfold dm_X11_item
  unfold tI
  rw [hm, if_neg (by omega), e, jrd_in b0.1 b0.2.2, Option.bind_some, i1, if_pos (by omega)]
  by_cases c0 : w = 0
  · rw [if_pos c0, if_pos c0, jrd_in b0.1 b0.2.2, Option.bind_some, f2, jld_i (by omega) k2.1 (by omega) (by omega), Option.bind_some, q1]
  · rw [if_neg c0, if_neg c0, if_pos (by omega), jrd_in b0.1 b0.2.2, Option.bind_some, f3, jld_i (by omega) k3.1 (by omega) (by omega), Option.bind_some, q2]
/-- a name's letter, or none -/
def nmQ (l : List Int) (i : Int) : Int := if i < l.length then l.getD i.toNat 0 else -1
theorem c_name (h : cBk s T b lo NL I OL SL) (h0 : 0 ≤ k) (h1 : k < NL.length) (i0 : 0 ≤ i) : m_X11_name s T k i = some (nmQ (tNa NL k) i) := by
  obtain ⟨e, B, ⟨n1, n2, n3⟩, hI, hO, s1, s2, s3⟩ := h
  obtain ⟨m, rfl, hm⟩ := nat_of h0
  have hm' : m < NL.length := by omega
  have f4 := B.2.1.2.2.2.2
  have k4 := B.2.2.2.2.2.2
  have b0 := B.1
  obtain ⟨⟨q1, q2, q3, q4⟩, q5⟩ := n3 m hm'
  rw [em_X11_name]; unfold dm_X11_name
  unfold tNa nmQ
  rw [hm, if_neg (by omega), e, jrd_in b0.1 b0.2.2, Option.bind_some, n1, if_pos (by omega), if_neg (by omega), jrd_in b0.1 b0.2.2, Option.bind_some, f4, jld_i (by omega) k4.1 (by omega) (by omega), Option.bind_some, s_len q1 (by omega), Option.bind_some]
  by_cases c : i < (NL.getD m []).length
  · rw [if_pos c, if_pos c, Option.bind_some, jld_i (by omega) k4.1 (by omega) (by omega), Option.bind_some, s_charAt q1 i0 c, Option.bind_some]
  · rw [if_neg c, if_neg c]
theorem c_str (h : cBk s T b lo NL I OL SL) (h0 : 0 ≤ k) (h1 : k < OL.length) (i0 : 0 ≤ i) (i1 : i < (tO OL k).2.2.2.2.2.2.length) (hl : (tO OL k).2.2.2.2.2.2.length ≤ 1000000) : m_X11_string s T k i = some ((tO OL k).2.2.2.2.2.2.getD i.toNat 0) := by
  obtain ⟨e, B, N, hI, ⟨o1, o2, o3⟩, s1, s2, s3⟩ := h
  obtain ⟨m, rfl, hm⟩ := nat_of h0
  have hm' : m < OL.length := by omega
  unfold tO at hl i1 ⊢
  rw [hm] at hl i1 ⊢
  obtain ⟨⟨t0, t1, t2⟩, t3, t4, t5⟩ := o3 m hm'
  have f0 := B.2.1.2.1
  have k1 := B.2.2.2.1
  have b0 := B.1
  rw [em_X11_string]; unfold dm_X11_string
  rw [em_X11_operandOf]; unfold dm_X11_operandOf
  rw [if_neg (by omega), e, jrd_in b0.1 b0.2.2, Option.bind_some, o1, if_pos (by omega), jrd_in b0.1 b0.2.2, Option.bind_some, f0, jld_i (by omega) k1.1 (by omega) (by omega), Option.bind_some, Option.bind_some, if_neg (by omega), if_neg (by omega), jrd_in t0 t2, Option.bind_some, s_len t4 (by omega), Option.bind_some, if_pos i1, Option.bind_some, s_charAt t4 i0 i1, Option.bind_some]
-- the twin
theorem y_count0 (h : yBk t U NL I OL SL) : m_X39_count t U 0 = some (t, (SL.length : Int)) := by
  obtain ⟨e, ⟨a1, a2, a3⟩, -⟩ := h
  rw [em_X39_count]; unfold dm_X39_count
  simp only [jls]
  rw [jp_same e, if_neg (by decide), if_pos (by decide), W32_in (by decide) (by decide), jlt_in (by decide) (by decide), Option.bind_some]
  have : jf t 1000 (U + 3) (4 + 0) = SL.length := a1
  rw [this]
theorem y_statement {w : Int} (h : yBk t U NL I OL SL) (h0 : 0 ≤ k) (h1 : k < SL.length) (w0 : 0 ≤ w) (w1 : w ≤ 5) : m_X39_statement t U k w = some (t, stQ1 (tS SL k) w) := by
  obtain ⟨e, ⟨a1, a2, a3⟩, -⟩ := h
  obtain ⟨m, rfl, hm⟩ := nat_of h0
  have hm' : m < SL.length := by omega
  have a1' : jf t 1000 (U + 3) 4 = SL.length := a1
  obtain ⟨q0, q1, q2, q3, q4, q5⟩ := a3 m hm'
  rw [em_X39_statement]; unfold dm_X39_statement
  simp only [jls]
  rw [jp_same e, if_neg (by omega), jlt_in (by decide) (by decide), Option.bind_some, a1', if_pos (by omega), if_neg (by omega), if_pos (by omega), W32_in (z := 6 * (m : Int)) (by omega) (by omega), W32_in (z := 2400 + 6 * (m : Int)) (by omega) (by omega), W32_in (by omega) (by omega), jlt_in (by omega) (by omega), Option.bind_some]
  unfold tS stQ1
  rw [hm]
  have e4 : kN 4 = 2400 := rfl
  have key : ∀ {j v : Int}, jf t 1000 (U + 4) (2400 + (6 * (m : Int) + j)) = v → jf t 1000 (U + 4) (2400 + 6 * (m : Int) + j) = v := fun h => by rw [Int.add_assoc]; exact h
  congr 2
  by_cases c0 : w = 0
  · rw [if_pos c0, c0]; exact key (by rw [Int.add_zero]; exact q0)
  rw [if_neg c0]
  by_cases c1 : w = 1
  · rw [if_pos c1, c1]; exact key q1
  rw [if_neg c1]
  by_cases c2 : w = 2
  · rw [if_pos c2, c2]; exact key q2
  rw [if_neg c2]
  by_cases c3 : w = 3
  · rw [if_pos c3, c3]; exact key q3
  rw [if_neg c3]
  by_cases c4 : w = 4
  · rw [if_pos c4, c4]; exact key q4
  rw [if_neg c4, show w = 5 by omega]; exact key q5
theorem y_operand {w : Int} (h : yBk t U NL I OL SL) (h0 : 0 ≤ k) (h1 : k < OL.length) (w0 : 0 ≤ w) (w1 : w ≤ 6) : m_X39_operand t U k w = some (t, opQ1 (tO OL k) w) := by
  obtain ⟨e, -, ⟨a1, a2, a3⟩, -⟩ := h
  obtain ⟨m, rfl, hm⟩ := nat_of h0
  have hm' : m < OL.length := by omega
  have a1' : jf t 1000 (U + 3) 5 = OL.length := a1
  obtain ⟨q0, q1, q2, q3, q4, q5, q6, q7⟩ := a3 m hm'
  rw [em_X39_operand]; unfold dm_X39_operand
  simp only [jls]
  rw [jp_same e, if_neg (by omega), jlt_in (by decide) (by decide), Option.bind_some, a1', if_pos (by omega), if_neg (by omega), if_pos (by omega), W32_in (z := 7 * (m : Int)) (by omega) (by omega), W32_in (z := 5600 + 7 * (m : Int)) (by omega) (by omega), W32_in (by omega) (by omega), jlt_in (by omega) (by omega), Option.bind_some]
  unfold tO opQ1
  rw [hm]
  have key : ∀ {j v : Int}, jf t 1000 (U + 5) (5600 + (7 * (m : Int) + j)) = v → jf t 1000 (U + 5) (5600 + 7 * (m : Int) + j) = v := fun h => by rw [Int.add_assoc]; exact h
  congr 2
  by_cases c0 : w = 0
  · rw [if_pos c0, c0]; exact key (by rw [Int.add_zero]; exact q0)
  rw [if_neg c0]
  by_cases c1 : w = 1
  · rw [if_pos c1, c1]; exact key q1
  rw [if_neg c1]
  by_cases c2 : w = 2
  · rw [if_pos c2, c2]; exact key q2
  rw [if_neg c2]
  by_cases c3 : w = 3
  · rw [if_pos c3, c3]; exact key q3
  rw [if_neg c3]
  by_cases c4 : w = 4
  · rw [if_pos c4, c4]; exact key q4
  rw [if_neg c4]
  by_cases c5 : w = 5
  · rw [if_pos c5, c5]; exact key q5
  rw [if_neg c5, show w = 6 by omega]; exact key q6
theorem y_item {w : Int} (h : yBk t U NL I OL SL) (h0 : 0 ≤ k) (h1 : k < I.length) (w0 : w = 0 ∨ w = 1) : m_X39_item t U k w = some (t, if w = 0 then (tI I k).1 else (tI I k).2) := by
  obtain ⟨e, -, -, ⟨a1, a2, a3⟩, -⟩ := h
  obtain ⟨m, rfl, hm⟩ := nat_of h0
  have hm' : m < I.length := by omega
  have a1' : jf t 1000 (U + 3) 6 = I.length := a1
  obtain ⟨q0, q1⟩ := a3 m hm'
  rw [em_X39_item]; unfold dm_X39_item
  simp only [jls]
  rw [jp_same e, if_neg (by omega), jlt_in (by decide) (by decide), Option.bind_some, a1', if_pos (by omega), if_neg (by omega), if_pos (by omega), W32_in (z := 2 * (m : Int)) (by omega) (by omega), W32_in (z := 4000 + 2 * (m : Int)) (by omega) (by omega), W32_in (by omega) (by omega), jlt_in (by omega) (by omega), Option.bind_some]
  unfold tI
  rw [hm]
  have key : ∀ {j v : Int}, jf t 1000 (U + 6) (4000 + (2 * (m : Int) + j)) = v → jf t 1000 (U + 6) (4000 + 2 * (m : Int) + j) = v := fun h => by rw [Int.add_assoc]; exact h
  congr 2
  by_cases c0 : w = 0
  · rw [if_pos c0, c0]; exact key (by rw [Int.add_zero]; exact q0)
  · rw [if_neg c0, show w = 1 by omega]; exact key q1
theorem y_qname (h : yBk t U NL I OL SL) (h0 : 0 ≤ k) (h1 : k < NL.length) (i0 : 0 ≤ i) : m_X39_name t U k i = some (t, nmQ (tNa NL k) i) := by
  obtain ⟨e, -, -, -, a1, a2, a3⟩ := h
  obtain ⟨m, rfl, hm⟩ := nat_of h0
  have hm' : m < NL.length := by omega
  have a1' : jf t 1000 (U + 3) 7 = NL.length := a1
  obtain ⟨q0, q1, q2⟩ := a3 m hm'
  have q1' : jf t 1000 (U + 8) (150 + (m : Int)) = (NL.getD m []).length := q1
  rw [em_X39_name]; unfold dm_X39_name
  simp only [jls]
  rw [jp_same e, if_neg (by omega), jlt_in (by decide) (by decide), Option.bind_some, a1', if_pos (by omega), if_neg (by omega), W32_in (z := 150 + (m : Int)) (by omega) (by omega), jlt_in (by omega) (by omega), Option.bind_some, q1']
  unfold tNa nmQ
  rw [hm]
  by_cases c : i < (NL.getD m []).length
  · obtain ⟨ni, rfl, hni⟩ := nat_of i0
    rw [if_pos c, if_pos c, W32_in (z := 16 * (m : Int)) (by omega) (by omega), W32_in (z := 2400 + 16 * (m : Int)) (by omega) (by omega), W32_in (by omega) (by omega), jlt_in (by omega) (by omega), Option.bind_some]
    have := q2 ni (by omega)
    have this' : jf t 1000 (U + 7) (2400 + (16 * (m : Int) + ni)) = (NL.getD m []).getD ni 0 := this
    rw [Int.add_assoc, this', hni]
  · rw [if_neg c, if_neg c]
theorem y_str (h : yBk t U NL I OL SL) (h0 : 0 ≤ k) (h1 : k < OL.length) (i0 : 0 ≤ i) (i1 : i < (tO OL k).2.2.2.2.2.2.length) : m_X39_string t U k i = some (t, (tO OL k).2.2.2.2.2.2.getD i.toNat 0) := by
  obtain ⟨e, -, ⟨a1, a2, a3⟩, -⟩ := h
  obtain ⟨m, rfl, hm⟩ := nat_of h0
  have hm' : m < OL.length := by omega
  unfold tO at i1 ⊢
  rw [hm] at i1 ⊢
  have a1' : jf t 1000 (U + 3) 5 = OL.length := a1
  obtain ⟨q0, q1, q2, q3, q4, q5, q6, q7⟩ := a3 m hm'
  have q6' : jf t 1000 (U + 5) (5600 + (7 * (m : Int) + 6)) = (OL.getD m oZ).2.2.2.2.2.2.length := q6
  obtain ⟨ni, rfl, hni⟩ := nat_of i0
  obtain ⟨r1, r2, r3⟩ := q7 (fun z => by rw [z] at i1; exact absurd i1 (by simp))
  have r1' : 0 ≤ jf t 1000 (U + 16) (800 + (m : Int)) := r1
  have r2' : jf t 1000 (U + 16) (800 + (m : Int)) + (OL.getD m oZ).2.2.2.2.2.2.length ≤ 3000 := r2
  have r3' : jf t 1000 (U + 9) (3000 + (jf t 1000 (U + 16) (800 + (m : Int)) + ni)) = (OL.getD m oZ).2.2.2.2.2.2.getD ni 0 := r3 ni (by omega)
  rw [em_X39_string]; unfold dm_X39_string
  simp only [jls]
  rw [jp_same e, if_neg (by omega), jlt_in (by decide) (by decide), Option.bind_some, a1', if_pos (by omega), if_neg (by omega), W32_in (z := 7 * (m : Int)) (by omega) (by omega), W32_in (z := 5600 + 7 * (m : Int)) (by omega) (by omega), W32_in (by omega) (by omega), jlt_in (by omega) (by omega), Option.bind_some, Int.add_assoc, q6']
  rw [if_pos i1, W32_in (z := 800 + (m : Int)) (by omega) (by omega), jlt_in (by omega) (by omega), Option.bind_some, W32_in (z := 3000 + jf t 1000 (U + 16) (800 + (m : Int))) (by omega) (by omega), W32_in (by omega) (by omega), jlt_in (by omega) (by omega), Option.bind_some, Int.add_assoc, r3', hni]
end jAsk
