/-! the component's write; files of one object are the same -/
section jCsame
variable {s t u : jS} {N L V O p n v f a b x y lo : Int} {g g' : Int → Int} {o : Int → Int → Int → Int} {K : Nat} {d : Int → Int}
theorem T33w (h : jTt s 33 O) : jTt s 40 (O + 1231) ∧ jTt s 39 (O + 1229) := by
  obtain ⟨-, -, -, -, h4, h5, -⟩ := T33 h
  exact ⟨h5, h4⟩
theorem c_beyond (h : cOb s b o) (v : vOb o) : ∃ r, m_X14_beyond s b = some r ∧ ftO o r := by
  obtain ⟨n1, n2, n3, n4, n5, n6⟩ := v.2.2.1
  obtain ⟨hL, hA, hB, ⟨hN1, hN2, hN3⟩, hT, hY, hR⟩ := h
  have room : ∀ x, 0 ≤ x → x < 4 → m_X14_room s b x = some (o 1 x 0) := fun x x0 x1 => by rw [e_X14_room _ _ _ ⟨x0, x1⟩, (hA x x0 x1).1]
  -- relocations
  have h3 : ¬ bd1 o → ¬ bd2 o → ∃ r, u_X14_beyond_81 s b = some r ∧ ftO o r := fun nb1 nb2 => by
    rw [eu_X14_beyond_81]; unfold du_X14_beyond_81
    rw [eu_X14_beyond_83]; unfold du_X14_beyond_83
    have st : ∀ k, 0 ≤ k → k < o 2 2 0 → b_X14_beyond_83 s b k = if o 1 (o 5 k 0) 0 < o 5 k 1 + kW (o 5 k 2) (o 5 k 4) then jinr (some (-3)) else some (.inl [b, k + 1]) := fun k k0 k1 => by
      obtain ⟨r1, r2, r3, r4, r5⟩ := hR k k0 k1
      obtain ⟨v1, v2, v3, v4, v5, v6, v7, v8, v9⟩ := v.2.2.2.2.2 k k0 k1
      have hw := kW_hi (k := o 5 k 2) (a := o 5 k 4) v9
      have hv := v.1 (o 5 k 0) v1 (by omega)
      unfold b_X14_beyond_83
      rw [hN3, if_pos k1, jix_in k0 (by omega), Option.bind_some, Option.bind_some, r1, room _ v1 (by omega), Option.bind_some, e_X18_isWithin, Option.bind_some, r2, r3, r5, (wd_ok (k := o 5 k 2) (a := o 5 k 4)).1 v5, W64_in (by omega) (by omega), W32_in (by omega) (by omega)]
      by_cases c : o 1 (o 5 k 0) 0 < o 5 k 1 + kW (o 5 k 2) (o 5 k 4)
      · rw [if_pos c, if_neg (c := ¬ o 5 k 1 < 0 ∧ _) (by omega), if_pos rfl]
      · rw [if_neg c, if_pos (c := ¬ o 5 k 1 < 0 ∧ _) (by omega), if_neg (by omega)]
    rcases jseekR (C := jc2 b_X14_beyond_83) (s := s) (fun k => [b, k]) (fun k => o 1 (o 5 k 0) 0 < o 5 k 1 + kW (o 5 k 2) (o 5 k 4)) (fun _ => some (-3)) (some 0) 0 (o 2 2 0) n5 (fun k k0 k1 hk => by
        show b_X14_beyond_83 s b k = _
        rw [st k k0 k1, if_neg hk]) (fun k k0 k1 hk => by
        show b_X14_beyond_83 s b k = _
        rw [st k k0 k1, if_pos hk]) (by
        show b_X14_beyond_83 s b (o 2 2 0) = _
        unfold b_X14_beyond_83
        rw [hN3, if_neg (by omega)]) with ⟨k, k0, k1, k2, -, e⟩ | ⟨k2, e⟩
    · exact ⟨_, e, .inr (.inr (.inl ⟨nb1, nb2, ⟨k, k0, k1, k2⟩, rfl⟩))⟩
    · exact ⟨_, e, .inr (.inr (.inr ⟨nb1, nb2, fun ⟨k, k0, k1, k3⟩ => k2 k k0 k1 k3, rfl⟩))⟩
  -- symbols
  have h2 : ¬ bd1 o → ∃ r, u_X14_beyond_28 s b = some r ∧ ftO o r := fun nb1 => by
    rw [eu_X14_beyond_28]; unfold du_X14_beyond_28
    rw [eu_X14_beyond_30]; unfold du_X14_beyond_30
    have st : ∀ k, 0 ≤ k → k < o 2 1 0 → b_X14_beyond_30 s b k = if 0 ≤ o 4 k 0 ∧ o 4 k 0 < 4 ∧ o 1 (o 4 k 0) 0 < o 4 k 1 + o 4 k 2 then jinr (some (-2)) else some (.inl [b, k + 1]) := fun k k0 k1 => by
      obtain ⟨y1, y2, y3, -⟩ := hY k k0 k1
      have vy := v.2.2.2.2.1 k k0 k1
      unfold vSy at vy
      obtain ⟨v1, v2, v3, v4, v5, v6, v7, v8, v9, v10, v11⟩ := vy
      unfold jin at v3 v4
      unfold b_X14_beyond_30
      rw [hN2, if_pos k1, jix_in k0 (by omega), Option.bind_some, y1]
      simp only [eu_X14_beyond_75, du_X14_beyond_75]
      rw [W32_in (z := k + 1) (by omega) (by omega)]
      by_cases c : 0 ≤ o 4 k 0 ∧ o 4 k 0 < 4
      · unfold wOK at v11
        rw [if_neg (by omega), if_neg (by omega), if_neg (by omega)] at v11
        have hv := v.1 (o 4 k 0) c.1 c.2
        rw [in_1 c.1 (by omega), Option.bind_some, if_neg (by omega), room _ c.1 c.2, Option.bind_some, e_X16_beyond, Option.bind_some, y2, y3, W64_in (by omega) (by omega)]
        by_cases c1 : o 1 (o 4 k 0) 0 < o 4 k 1 + o 4 k 2
        · rw [if_pos (c := 0 ≤ o 4 k 0 ∧ _) ⟨c.1, c.2, c1⟩, if_pos c1]
          by_cases c2 : o 1 (o 4 k 0) 0 < o 4 k 1
          · rw [if_pos c2, if_pos (by decide)]
          · rw [if_neg c2, if_pos (by decide)]
        · rw [if_neg (c := 0 ≤ o 4 k 0 ∧ _) (fun z => c1 z.2.2), if_neg c1, if_neg (by omega)]
      · rw [in_0 (by omega), Option.bind_some, if_pos rfl, if_neg (fun z => c ⟨z.1, z.2.1⟩)]
    rcases jseekR (C := jc2 b_X14_beyond_30) (s := s) (fun k => [b, k]) (fun k => 0 ≤ o 4 k 0 ∧ o 4 k 0 < 4 ∧ o 1 (o 4 k 0) 0 < o 4 k 1 + o 4 k 2) (fun _ => some (-2)) (u_X14_beyond_81 s b) 0 (o 2 1 0) n3 (fun k k0 k1 hk => by
        show b_X14_beyond_30 s b k = _
        rw [st k k0 k1, if_neg hk]) (fun k k0 k1 hk => by
        show b_X14_beyond_30 s b k = _
        rw [st k k0 k1, if_pos hk]) (by
        show b_X14_beyond_30 s b (o 2 1 0) = _
        unfold b_X14_beyond_30
        rw [hN2, if_neg (by omega)]) with ⟨k, k0, k1, k2, -, e⟩ | ⟨k2, e⟩
    · exact ⟨_, e, .inr (.inl ⟨nb1, ⟨k, k0, k1, k2⟩, rfl⟩)⟩
    · obtain ⟨r, e', hr⟩ := h3 nb1 fun ⟨k, k0, k1, k3⟩ => k2 k k0 k1 k3
      exact ⟨r, e.trans e', hr⟩
  rw [em_X14_beyond]; unfold dm_X14_beyond
  rw [hN1]
  by_cases c : 0 < o 2 0 0
  · have ht := hT (o 2 0 0 - 1) (by omega) (by omega)
    rw [if_pos c, W32_in (by omega) (by omega), jlt_in (by omega) (by omega), Option.bind_some, ht, room 0 (by omega) (by omega), Option.bind_some]
    by_cases c1 : o 3 (o 2 0 0 - 1) 0 < o 1 0 0
    · rw [if_pos c1]
      refine h2 fun ⟨k, k0, k1, k2⟩ => ?_
      have vt := (v.2.2.2.1 (o 2 0 0 - 1) (by omega) (by omega)).2.2.2
      by_cases e : k = o 2 0 0 - 1
      · subst e; omega
      · have := vt k k0 (by omega); omega
    · rw [if_neg c1]
      exact ⟨_, rfl, .inl ⟨⟨o 2 0 0 - 1, by omega, by omega, by omega⟩, rfl⟩⟩
  · rw [if_neg c]
    exact h2 fun ⟨k, k0, k1, k2⟩ => by omega
theorem ftO_lo {r : Int} (h : ftO o r) : -3 ≤ r ∧ r ≤ 0 := by
  rcases h with h | h | h | h
  · omega
  · have := h.2.2; omega
  · have := h.2.2.2; omega
  · have := h.2.2.2; omega
theorem ftO_eq {r r' : Int} (h : ftO o r) (h' : ftO o r') : r = r' := by
  unfold ftO at h h'
  by_cases c1 : bd1 o
  · simp only [c1, not_true, false_and, or_false, true_and] at h h'; omega
  · by_cases c2 : bd2 o
    · simp only [c1, c2, not_true, not_false_eq_true, false_and, or_false, false_or, true_and] at h h'; omega
    · by_cases c3 : bd3 o
      · simp only [c1, c2, c3, not_true, not_false_eq_true, false_and, or_false, false_or, true_and] at h h'; omega
      · simp only [c1, c2, c3, not_true, not_false_eq_true, false_and, or_false, false_or, true_and] at h h'; omega
/-- an object's write: the answer, the file -/
def wRes (o : Int → Int → Int → Int) (r : Int) : Prop := (ftO o r ∧ r ≠ 0) ∨ ftO o 0 ∧ 8192 < totO o ∧ r = -4 ∨ ftO o 0 ∧ totO o ≤ 8192 ∧ r = totO o
theorem c_mwrite (h : cMk s O o d) (hC : pCon s) (hN1 : jN s (O + 1233) = 8193) (hN2 : jN s (O + 1230) = 8192) : jE (m_X13_write s O) fun q => jFx s q.1 (O + 1229) 10 ∧ wRes o q.2 ∧ (0 < q.2 → totO o ≤ 8192 ∧ q.2 = totO o ∧ ∃ g, wB q.1 (O + 1229) 8192 g (totO o) ∧ pFi o g) ∧ (q.2 ≤ 0 → totO o ≤ 0 ∨ jFx s q.1 (O + 1231) 8) := by
  obtain ⟨hT, hO, v, -, -⟩ := h
  obtain ⟨t1, t2⟩ := T33w hT
  obtain ⟨-, t3, -⟩ := T33 hT
  obtain ⟨tb1, tb2, tb3, tb4⟩ := tab_lo v
  have hq := qO_lo v 11
  obtain ⟨r, er, hr⟩ := c_beyond hO v
  have hr0 := ftO_lo hr
  rw [em_X13_write]; unfold dm_X13_write
  rw [er, Option.bind_some]
  by_cases c0 : r < 0
  · rw [if_pos c0]
    refine jS_end ⟨jFx.rfl, .inl ⟨hr, ?_⟩, fun z => ?_, fun _ => .inr jFx.rfl⟩
    · show r ≠ 0
      omega
    · have : 0 < r := z
      omega
  have c0 : r = 0 := by omega
  subst c0
  have nb : ¬ bd1 o := by
    rcases hr with h | h | h | h
    · omega
    · exact h.1
    · exact h.1
    · exact h.1
  have H : wH s (O + 1231) (O + 1) o := ⟨t1, t3, hO, v, by omega⟩
  rw [if_neg (by omega)]
  refine jS_call (c_write H hC nb (by rw [show O + 1231 + 2 = O + 1233 by omega]; exact hN1)) fun q ⟨k1, hq2⟩ => ?_
  rcases hq2 with ⟨h1, h2⟩ | ⟨h1, h2, g, h3, h4⟩
  · rw [if_pos h2]
    refine jS_end ⟨k1.wide (by omega) (by omega), .inr (.inl ⟨hr, h1, rfl⟩), fun z => ?_, fun _ => .inr (k1.wide (by omega) (by omega))⟩
    have : (0 : Int) < -4 := z
    omega
  · rw [if_neg (by omega)]
    have ec : m_X19_clear q.1 (O + 1229) = some (jp (jp q.1 23 (O + 1229) 1 0) 23 (O + 1229) 2 0, 0) := by
      rw [em_X19_clear]; unfold dm_X19_clear
      simp only [jls]
      rw [jzb_in (.inl rfl)]; rfl
    rw [ec, Option.bind_some]
    have k2 : jFx q.1 (jp (jp q.1 23 (O + 1229) 1 0) 23 (O + 1229) 2 0) (O + 1229) 2 := (jFx.rfl.jp rfl (by omega) (by omega)).jp rfl (by omega) (by omega)
    have w0 : wB (jp (jp q.1 23 (O + 1229) 1 0) 23 (O + 1229) 2 0) (O + 1229) 8192 g 0 := ⟨by
      show jN q.1 (O + 1229 + 1) = 8192
      rw [k1.N, show O + 1229 + 1 = O + 1230 by omega]; exact hN2, Int.le_refl _, .inl ⟨by omega, by (repeat (first | rw [jf_neg (by omega)] | rw [jf_pos (by omega)] | rw [ou_neg (by omega)] | rw [ou_pos (by omega)])), by (repeat (first | rw [jf_neg (by omega)] | rw [jf_pos (by omega)] | rw [ou_neg (by omega)] | rw [ou_pos (by omega)])), fun i i0 i1 => by omega⟩⟩
    have w1 := h3.kf k2 (by omega)
    generalize jp (jp q.1 23 (O + 1229) 1 0) 23 (O + 1229) 2 0 = s0 at k2 w0 w1
    rw [eu_X13_write_40]; unfold du_X13_write_40
    refine jS_for (fun k t => jFx s0 t (O + 1229) 2 ∧ wB t (O + 1229) 8192 g k) (fun k => [O, k]) 0 (totO o) (by omega) ⟨jFx.rfl, w0⟩ (fun k t i0 i1 ⟨e1, e2⟩ => ?_) (fun t ⟨e1, e2⟩ => ?_)
    · show jE (b_X13_write_40 t O k) _
      unfold b_X13_write_40
      have w2 := w1.kf e1 (by omega)
      obtain ⟨n1, n2, n3⟩ := w2
      obtain ⟨n3, n4, n5, n6⟩ := n3.resolve_right (by omega)
      obtain ⟨m1, m2, m3⟩ := n6 k i0 i1
      rw [n5, if_pos i1, jlt_in i0 (by omega), Option.bind_some, m1]
      refine jS_call (c_p1 e2 (by omega) _) fun q ⟨q1, q2⟩ => ?_
      rw [W32_in (by omega) (by omega)]
      refine jS_end ⟨rfl, e1.trans q1, q2.eq fun i j0 j1 => ?_⟩
      by_cases c : i = k
      · rw [c, gN_1, sb_256 m2 m3]
      · rw [gN_lo (by omega)]
    · show jE (b_X13_write_40 t O (totO o)) _
      unfold b_X13_write_40
      have w2 := w1.kf e1 (by omega)
      obtain ⟨n1, n2, n3⟩ := w2
      obtain ⟨n3, n4, n5, n6⟩ := n3.resolve_right (by omega)
      rw [n5, if_neg (by omega), eu_X13_write_79]; unfold du_X13_write_79
      have ez : jf t 23 (O + 1229) 1 = totO o := (e2.2.2.resolve_right (by omega)).2.2.1
      rw [ez]
      exact jS_inr (jS_end ⟨(k1.wide (by omega) (by omega)).trans ((k2.trans e1).wide (by omega) (by omega)), .inr (.inr ⟨hr, h1, rfl⟩), fun _ => ⟨h1, rfl, g, e2, h4⟩, fun z => .inl z⟩)
theorem wRes_eq {r r' : Int} (h : wRes o r) (h' : wRes o r') : r = r' := by
  rcases h with ⟨a1, a2⟩ | ⟨a1, a2, a3⟩ | ⟨a1, a2, a3⟩ <;> rcases h' with ⟨b1, b2⟩ | ⟨b1, b2, b3⟩ | ⟨b1, b2, b3⟩
  · exact ftO_eq a1 b1
  · exact absurd (ftO_eq a1 b1) a2
  · exact absurd (ftO_eq a1 b1) a2
  · exact absurd (ftO_eq b1 a1) b2
  · omega
  · omega
  · exact absurd (ftO_eq b1 a1) b2
  · omega
  · omega
/-- bytes of numbers are told -/
theorem B4.at {q i : Int} (h : B4 g q v) (h' : B4 g' q v) (i0 : q ≤ i) (i1 : i < q + 4) : g i = g' i := by
  have : i = q ∨ i = q + 1 ∨ i = q + 2 ∨ i = q + 3 := by omega
  rcases this with e | e | e | e <;> rw [e]
  · rw [h.1, h'.1]
  · rw [h.2.1, h'.2.1]
  · rw [h.2.2.1, h'.2.2.1]
  · rw [h.2.2.2, h'.2.2.2]
theorem B2.at {q i : Int} (h : B2 g q v) (h' : B2 g' q v) (i0 : q ≤ i) (i1 : i < q + 2) : g i = g' i := by
  have : i = q ∨ i = q + 1 := by omega
  rcases this with e | e <;> rw [e]
  · rw [h.1, h'.1]
  · rw [h.2, h'.2]
/-- which part a place is in -/
theorem part_of (v : vOb o) {i : Int} (i0 : 52 ≤ i) (i1 : i < qO o 11) : ∃ k : Nat, k < 11 ∧ qO o k ≤ i ∧ i < qO o (k + 1) := by
  have key : ∀ m : Nat, m ≤ 11 → i < qO o m → ∃ k : Nat, k < m ∧ qO o k ≤ i ∧ i < qO o (k + 1) := by
    intro m
    induction m with
    | zero => intro _ h; have : qO o 0 = 52 := rfl
              omega
    | succ m ih =>
      intro hm h
      by_cases c : i < qO o m
      · obtain ⟨k, a, b⟩ := ih (by omega) c
        exact ⟨k, by omega, b⟩
      · exact ⟨m, by omega, by omega, h⟩
  exact key 11 (Nat.le_refl _) i1
theorem en_hit (v : vOb o) {e : Int} (e0 : 1 ≤ e) (e1 : e < enT (th o) 11) : ∃ k : Nat, k < 11 ∧ th o k = true ∧ en o k = e := by
  have key : ∀ m : Nat, m ≤ 11 → e < enT (th o) m → ∃ k : Nat, k < m ∧ th o k = true ∧ en o k = e := by
    intro m
    induction m with
    | zero => intro _ h; have : enT (th o) 0 = 1 := rfl
              omega
    | succ m ih =>
      intro hm h
      by_cases c : e < enT (th o) m
      · obtain ⟨k, a, b⟩ := ih (by omega) c
        exact ⟨k, by omega, b⟩
      · have hs : enT (th o) (m + 1) = enT (th o) m + if th o m then 1 else 0 := rfl
        by_cases ct : th o m = true
        · rw [if_pos ct] at hs
          exact ⟨m, by omega, ct, by rw [(en_pos ct).1]; omega⟩
        · rw [if_neg ct] at hs; omega
  exact key 11 (Nat.le_refl _) e1
theorem pFi_one (v : vOb o) (h : pFi o g) (h' : pFi o g') {i : Int} (i0 : 0 ≤ i) (i1 : i < totO o) : g i = g' i := by
  obtain ⟨⟨a1, a2, a3, a4, a5, a6, a7, a8, a9, a10, a11, a12, a13, a14⟩, hSc, hSs, hRl, ⟨hY0, hY⟩, hSt, hTl, ⟨hE0, hE⟩, hG, hT⟩ := h
  obtain ⟨⟨b1, b2, b3, b4, b5, b6, b7, b8, b9, b10, b11, b12, b13, b14⟩, kSc, kSs, kRl, ⟨kY0, kY⟩, kSt, kTl, ⟨kE0, kE⟩, kG, kT⟩ := h'
  obtain ⟨tb1, tb2, tb3, tb4⟩ := tab_lo v
  have hvn := v.2.2.1
  unfold vObN at hvn
  by_cases c52 : i < 52
  · by_cases c : i < 4
    · exact a1.at b1 i0 c
    by_cases c : i < 8
    · exact a2.at b2 (by omega) c
    by_cases c : i < 16
    · rw [a3 i (by omega) c, b3 i (by omega) c]
    by_cases c : i < 18
    · exact a4.at b4 (by omega) c
    by_cases c : i < 20
    · exact a5.at b5 (by omega) c
    by_cases c : i < 24
    · exact a6.at b6 (by omega) c
    by_cases c : i < 32
    · rw [a7 i (by omega) c, b7 i (by omega) c]
    by_cases c : i < 36
    · exact a8.at b8 (by omega) c
    by_cases c : i < 40
    · exact a9.at b9 (by omega) c
    by_cases c : i < 42
    · exact a10.at b10 (by omega) c
    by_cases c : i < 46
    · rw [a11 i (by omega) c, b11 i (by omega) c]
    by_cases c : i < 48
    · exact a12.at b12 (by omega) c
    by_cases c : i < 50
    · exact a13.at b13 (by omega) c
    · exact a14.at b14 (by omega) (by omega)
  by_cases c11 : i < qO o 11
  · obtain ⟨k, k0, k1, k2⟩ := part_of v (by omega) c11
    by_cases cb : i < bO o k
    · rw [hG k k0 i k1 cb, kG k k0 i k1 cb]
    have hin := (in_tot v k0).2.2.1
    have : k = 0 ∨ k = 1 ∨ k = 2 ∨ k = 3 ∨ k = 4 ∨ k = 5 ∨ k = 6 ∨ k = 7 ∨ k = 8 ∨ k = 9 ∨ k = 10 := by omega
    -- sections
    have sec : ∀ x : Nat, x < 3 → bO o x ≤ i → i < bO o x + o 1 x 0 → g i = g' i := fun x hx p0 p1 => by
      have e1 := hSc x hx (i - bO o x) (by omega) (by omega)
      have e2 := kSc x hx (i - bO o x) (by omega) (by omega)
      rw [show bO o x + (i - bO o x) = i by omega] at e1 e2
      rw [e1, e2]
    -- relocations
    have rel : ∀ x : Nat, x < 3 → bO o (5 + x) ≤ i → i < bO o (5 + x) + 12 * cn (ofS o x) (o 2 2 0) → g i = g' i := fun x hx p0 p1 => by
      obtain ⟨z, z0, z1, z2, z3⟩ := cn_hit (P := ofS o x) (n := (i - bO o (5 + x)) / 12) (N := o 2 2 0) (by omega) (by omega) (by omega)
      have ez : o 5 z 0 = x := by unfold ofS at z2; simpa using z2
      have ea : aRl o z = bO o (5 + x) + 12 * ((i - bO o (5 + x)) / 12) := by
        unfold aRl; rw [ez, show (x : Int).toNat = x by omega, z3]
      obtain ⟨p1, p2, p3⟩ := hRl z z0 z1
      obtain ⟨r1, r2, r3⟩ := kRl z z0 z1
      by_cases c : i < aRl o z + 4
      · exact p1.at r1 (by omega) c
      by_cases c : i < aRl o z + 8
      · exact p2.at r2 (by omega) (by omega)
      · exact p3.at r3 (by omega) (by omega)
    rcases this with rfl | rfl | rfl | rfl | rfl | rfl | rfl | rfl | rfl | rfl | rfl
    · exact sec 0 (by omega) (by omega) (by have : lnO o 0 = o 1 0 0 := rfl
                                            show i < bO o 0 + o 1 0 0
                                            omega)
    · exact sec 1 (by omega) (by omega) (by have : lnO o 1 = o 1 1 0 := rfl
                                            show i < bO o 1 + o 1 1 0
                                            omega)
    · exact sec 2 (by omega) (by omega) (by have : lnO o 2 = o 1 2 0 := rfl
                                            show i < bO o 2 + o 1 2 0
                                            omega)
    · have : lnO o 3 = 0 := rfl
      omega
    · have : lnO o 4 = 2 * o 2 0 0 := rfl
      exact (hSs ((i - bO o 4) / 2) (by omega) (by omega)).at (kSs ((i - bO o 4) / 2) (by omega) (by omega)) (by omega) (by omega)
    · have l5 : lnO o 5 = 12 * cn (ofS o 0) (o 2 2 0) := rfl
      exact rel 0 (by omega) (show bO o 5 ≤ i by omega) (show i < bO o 5 + 12 * cn (ofS o 0) (o 2 2 0) by omega)
    · have l5 : lnO o 6 = 12 * cn (ofS o 1) (o 2 2 0) := rfl
      exact rel 1 (by omega) (show bO o 6 ≤ i by omega) (show i < bO o 6 + 12 * cn (ofS o 1) (o 2 2 0) by omega)
    · have l5 : lnO o 7 = 12 * cn (ofS o 2) (o 2 2 0) := rfl
      exact rel 2 (by omega) (show bO o 7 ≤ i by omega) (show i < bO o 7 + 12 * cn (ofS o 2) (o 2 2 0) by omega)
    · have l8 : lnO o 8 = 16 + 16 * o 2 1 0 := rfl
      by_cases c : i < bO o 8 + 16
      · rw [hY0 i (by omega) c, kY0 i (by omega) c]
      · obtain ⟨z0, z1, z2⟩ := xt_p (o := o) (n := (i - bO o 8 - 16) / 16) (by omega) (by omega)
        have ea : aSy o (xt o ((i - bO o 8 - 16) / 16)) = bO o 8 + 16 + 16 * ((i - bO o 8 - 16) / 16) := by unfold aSy; rw [z2]
        obtain ⟨p1, p2, p3, p4, p5, p6⟩ := hY _ z0 z1
        obtain ⟨r1, r2, r3, r4, r5, r6⟩ := kY _ z0 z1
        generalize aSy o (xt o ((i - bO o 8 - 16) / 16)) = A at *
        by_cases c : i < A + 4
        · exact p1.at r1 (by omega) c
        by_cases c : i < A + 8
        · exact p2.at r2 (by omega) (by omega)
        by_cases c : i < A + 12
        · exact p3.at r3 (by omega) (by omega)
        by_cases c : i = A + 12
        · rw [c, p4, r4]
        by_cases c : i = A + 13
        · rw [c, p5, r5]
        · exact p6.at r6 (by omega) (by omega)
    · have l9 : lnO o 9 = (sSy o (o 2 1 0).toNat).length := rfl
      have e1 := hSt (i - bO o 9).toNat (by omega)
      have e2 := kSt (i - bO o 9).toNat (by omega)
      rw [show bO o 9 + ((i - bO o 9).toNat : Int) = i by omega] at e1 e2
      rw [e1, e2]
    · have l9 : lnO o 10 = (sTl (th o) 11).length := rfl
      have e1 := hTl (i - bO o 10).toNat (by omega)
      have e2 := kTl (i - bO o 10).toNat (by omega)
      rw [show bO o 10 + ((i - bO o 10).toNat : Int) = i by omega] at e1 e2
      rw [e1, e2]
  by_cases cT : i < tabO o
  · rw [hT i (by omega) cT, kT i (by omega) cT]
  by_cases cE : i < tabO o + 40
  · rw [hE0 i (by omega) cE, kE0 i (by omega) cE]
  · obtain ⟨k, k0, k1, k2⟩ := en_hit v (e := (i - tabO o) / 40) (by omega) (by omega)
    have ea : aEn o k = tabO o + 40 * ((i - tabO o) / 40) := by unfold aEn; rw [k2]
    obtain ⟨p1, p2, p3, p4, p5, p6, p7, p8, p9, p10⟩ := hE k k0 k1
    obtain ⟨r1, r2, r3, r4, r5, r6, r7, r8, r9, r10⟩ := kE k k0 k1
    generalize aEn o k = A at *
    by_cases c : i < A + 4
    · exact p1.at r1 (by omega) c
    by_cases c : i < A + 8
    · exact p2.at r2 (by omega) (by omega)
    by_cases c : i < A + 12
    · exact p3.at r3 (by omega) (by omega)
    by_cases c : i < A + 16
    · exact p4.at r4 (by omega) (by omega)
    by_cases c : i < A + 20
    · exact p5.at r5 (by omega) (by omega)
    by_cases c : i < A + 24
    · exact p6.at r6 (by omega) (by omega)
    by_cases c : i < A + 28
    · exact p7.at r7 (by omega) (by omega)
    by_cases c : i < A + 32
    · exact p8.at r8 (by omega) (by omega)
    by_cases c : i < A + 36
    · exact p9.at r9 (by omega) (by omega)
    · exact p10.at r10 (by omega) (by omega)
end jCsame
