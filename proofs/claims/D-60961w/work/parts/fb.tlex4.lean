/-! the twin reads words: signs; the next word -/
section jTlex4
variable {t u w : jS} {U n p q r k c f v y e a' : Int} {g : Int → Int} {W : wR4}
theorem y_sign (h : tdI t U g n) (h17 : jf t 43 U 17 = r) (r0 : 0 ≤ r) (r1 : r < n) : jE (m_X39_signWord t U (bt g n r)) fun q => yRd t q.1 U ∧ tkS q.1 U g n (wdY g n r) := by
  obtain ⟨-, -, hb, n0, n1⟩ := id h
  rw [em_X39_signWord]; unfold dm_X39_signWord wdY
  simp only [jls]
  have K : yRd t (jp (jp (jp t 43 U 15 5) 43 U 16 (bt g n r)) 43 U 18 (r + 1)) U := ((yRd.rfl.slt (by omega)).slt (by omega)).slt (by omega)
  have hw := h.kp K
  rw [show jf (jp (jp t 43 U 15 5) 43 U 16 (bt g n r)) 43 U 17 = r by rw [jf_neg (by omega), jf_neg (by omega)]; exact h17, W32_in (z := r + 1) (by omega) (by omega)]
  have f15 : jf (jp (jp (jp t 43 U 15 5) 43 U 16 (bt g n r)) 43 U 18 (r + 1)) 43 U 15 = 5 := by (repeat (first | rw [jf_neg (by omega)] | rw [jf_pos (by omega)] | rw [ou_neg (by omega)] | rw [ou_pos (by omega)]))
  have f16 : jf (jp (jp (jp t 43 U 15 5) 43 U 16 (bt g n r)) 43 U 18 (r + 1)) 43 U 16 = bt g n r := by (repeat (first | rw [jf_neg (by omega)] | rw [jf_pos (by omega)] | rw [ou_neg (by omega)] | rw [ou_pos (by omega)]))
  have f18 : jf (jp (jp (jp t 43 U 15 5) 43 U 16 (bt g n r)) 43 U 18 (r + 1)) 43 U 18 = r + 1 := by (repeat (first | rw [jf_neg (by omega)] | rw [jf_pos (by omega)] | rw [ou_neg (by omega)] | rw [ou_pos (by omega)]))
  have f17 : jf (jp (jp (jp t 43 U 15 5) 43 U 16 (bt g n r)) 43 U 18 (r + 1)) 43 U 17 = r := by rw [jf_neg (by omega), jf_neg (by omega), jf_neg (by omega)]; exact h17
  generalize jp (jp (jp t 43 U 15 5) 43 U 16 (bt g n r)) 43 U 18 (r + 1) = s3 at *
  have e84 : ∀ (w : jS) z, yRd t w U → jf w 43 U 17 = r → u_X39_signWord_84 w U z U = some (jp (jp w 43 U 16 z) 43 U 18 (r + 2), 0) := fun w z _ hw17 => by
    rw [eu_X39_signWord_84]; unfold du_X39_signWord_84
    simp only [jls]
    rw [jf_neg (by omega), hw17, W32_in (by omega) (by omega)]
  have e32 : bt g n r = 60 ∨ bt g n r = 62 → jE (u_X39_signWord_32 s3 U (bt g n r)) fun q => yRd t q.1 U ∧ tkS q.1 U g n (if (bt g n r = 60 ∨ bt g n r = 62) ∧ bt g n (r + 1) = bt g n r then (5, if bt g n r = 60 then 256 else 257, r, r + 2) else cif (sgOK (bt g n r)) (5, bt g n r, r, r + 1) (6, 1, r, 0)) := fun hd => by
    rw [eu_X39_signWord_32]; unfold du_X39_signWord_32
    rw [f17, W32_in (by omega) (by omega), y_av hw (by omega), Option.bind_some]
    by_cases c : bt g n (r + 1) = bt g n r
    · rw [if_pos ((av_eq (by omega) (by omega)).mpr c), if_pos ⟨hd, c⟩, eu_X39_signWord_55]; unfold du_X39_signWord_55
      rw [f15, if_neg (by decide), e84 s3 300 K f17, e84 s3 301 K f17]
      have fin : ∀ z z', z' = sgT z → jE (some (jp (jp s3 43 U 16 z') 43 U 18 (r + 2), (0 : Int))) fun q => yRd t q.1 U ∧ tkS q.1 U g n (5, z, r, r + 2) := fun z z' hz => by
        refine jS_end ⟨(K.slt (by omega)).slt (by omega), ?_, ?_, fun q => absurd q (show ¬ (5 : Int) = 6 by decide), fun _ => jf_pos ⟨rfl, rfl, rfl⟩, fun q => absurd q (show ¬ ((5 : Int) = 2 ∨ (5 : Int) = 3) by decide), fun _ => ?_, fun q => absurd q (show ¬ (5 : Int) = 4 by decide)⟩
        · rw [jf_neg (by omega), jf_neg (by omega)]; exact f15
        · rw [jf_neg (by omega), jf_neg (by omega)]; exact f17
        · rw [jf_neg (by omega), jf_pos ⟨rfl, rfl, rfl⟩]; exact hz
      by_cases c2 : bt g n r = 60
      · rw [if_pos c2, if_pos c2]; exact fin _ _ rfl
      · rw [if_neg c2, if_neg c2]; exact fin _ _ rfl
    · rw [if_neg (fun z => c ((av_eq (by omega) (by omega)).mp z)), if_neg (fun z => c z.2), cif_neg (by unfold sgOK; omega), y_bad, Option.bind_some, eu_X39_signWord_55]; unfold du_X39_signWord_55
      dsimp only
      rw [show jf (jp (jp (jp s3 43 U 15 6) 43 U 16 1) 43 U 17 r) 43 U 15 = 6 by (repeat (first | rw [jf_neg (by omega)] | rw [jf_pos (by omega)] | rw [ou_neg (by omega)] | rw [ou_pos (by omega)])), if_pos rfl, e84 _ 1 K.bad (jf_pos ⟨rfl, rfl, rfl⟩)]
      refine jS_end ⟨(K.bad.slt (by omega)).slt (by omega), ?_, ?_, fun _ => ?_, fun z => absurd rfl z, fun z => absurd z (show ¬ ((6 : Int) = 2 ∨ (6 : Int) = 3) by decide), fun z => absurd z (show ¬ (6 : Int) = 5 by decide), fun z => absurd z (show ¬ (6 : Int) = 4 by decide)⟩
      · show _ = (6 : Int)
        (repeat (first | rw [jf_neg (by omega)] | rw [jf_pos (by omega)] | rw [ou_neg (by omega)] | rw [ou_pos (by omega)]))
      · show _ = r
        (repeat (first | rw [jf_neg (by omega)] | rw [jf_pos (by omega)] | rw [ou_neg (by omega)] | rw [ou_pos (by omega)]))
      · show _ = (1 : Int)
        (repeat (first | rw [jf_neg (by omega)] | rw [jf_pos (by omega)] | rw [ou_neg (by omega)] | rw [ou_pos (by omega)]))
  have ok : sgOK (bt g n r) → jE (u_X39_signWord_176 s3 U) fun q => yRd t q.1 U ∧ tkS q.1 U g n (cif (sgOK (bt g n r)) (5, bt g n r, r, r + 1) (6, 1, r, 0)) := fun z => by
    rw [eu_X39_signWord_176]; unfold du_X39_signWord_176
    rw [eu_X39_signWord_181]; unfold du_X39_signWord_181
    rw [if_neg (by decide), cif_pos z]
    exact jS_end ⟨K, f15, f17, fun q => absurd q (show ¬ (5 : Int) = 6 by decide), fun _ => f18, fun q => absurd q (show ¬ ((5 : Int) = 2 ∨ (5 : Int) = 3) by decide), fun _ => by
      show jf s3 43 U 16 = sgT (bt g n r)
      rw [f16]; unfold sgT; unfold sgOK at z; rw [if_neg (by omega), if_neg (by omega)], fun q => absurd q (show ¬ (5 : Int) = 4 by decide)⟩
  have no : ¬ sgOK (bt g n r) → jE (u_X39_signWord_181 s3 U 0) fun q => yRd t q.1 U ∧ tkS q.1 U g n (cif (sgOK (bt g n r)) (5, bt g n r, r, r + 1) (6, 1, r, 0)) := fun z => by
    rw [eu_X39_signWord_181]; unfold du_X39_signWord_181
    rw [if_pos rfl, y_bad, Option.bind_some, f17, cif_neg z]
    exact jS_end ⟨K.bad, tkS.bad rfl⟩
  by_cases d0 : bt g n r = 60
  · rw [if_pos d0]; exact e32 (.inl d0)
  rw [if_neg d0]
  by_cases d1 : bt g n r = 62
  · rw [if_pos d1]; exact e32 (.inr d1)
  rw [if_neg d1, if_neg (show ¬ ((bt g n r = 60 ∨ bt g n r = 62) ∧ bt g n (r + 1) = bt g n r) from fun z => z.1.elim d0 d1)]
  by_cases hs : sgOK (bt g n r)
  · have O := ok hs
    unfold sgOK at hs
    rcases hs with z | z | z | z | z | z | z | z | z | z | z | z | z <;> (repeat (first | rw [if_pos (by omega)] | rw [if_neg (by omega)])) <;> exact O
  · have N := no hs
    unfold sgOK at hs
    rw [if_neg (by omega), if_neg (by omega), if_neg (by omega), if_neg (by omega), if_neg (by omega), if_neg (by omega), if_neg (by omega), if_neg (by omega), if_neg (by omega), if_neg (by omega), if_neg (by omega), if_neg (by omega), if_neg (by omega)]
    exact N
/-- the next word -/
theorem y_next (h : tdI t U g n) (h18 : jf t 43 U 18 = p) (p0 : 0 ≤ p) (p1 : p ≤ n) : jE (m_X39_next t U) fun q => yRd t q.1 U ∧ tkS q.1 U g n (wd g n p) := by
  obtain ⟨-, -, hb, n0, n1⟩ := id h
  obtain ⟨⟨s1, s2, s3⟩, s4⟩ := up_to (g := g) (n := n) (P := spP) (by unfold spP; omega) p1
  have main : ∀ r, 0 ≤ r → r ≤ n → jE (u_X39_next_125 t U r) fun q => yRd t q.1 U ∧ tkS q.1 U g n (wd1 g n r) := fun r r0 r1 => by
    rw [eu_X39_next_125]; unfold du_X39_next_125
    simp only [jls]
    have K : yRd t (jp (jp t 43 U 17 r) 43 U 18 r) U := (yRd.rfl.slt (by omega)).slt (by omega)
    have hw := h.kp K
    have f17 : jf (jp (jp t 43 U 17 r) 43 U 18 r) 43 U 17 = r := by (repeat (first | rw [jf_neg (by omega)] | rw [jf_pos (by omega)] | rw [ou_neg (by omega)] | rw [ou_pos (by omega)]))
    have f18 : jf (jp (jp t 43 U 17 r) 43 U 18 r) 43 U 18 = r := by (repeat (first | rw [jf_neg (by omega)] | rw [jf_pos (by omega)] | rw [ou_neg (by omega)] | rw [ou_pos (by omega)]))
    generalize jp (jp t 43 U 17 r) 43 U 18 r = s2 at *
    have e154 : jE (u_X39_next_154 s2 U) fun q => yRd t q.1 U ∧ tkS q.1 U g n (0, 0, r, r) := by
      rw [eu_X39_next_154]; unfold du_X39_next_154
      exact jS_end ⟨K.slt (by omega), jf_pos ⟨rfl, rfl, rfl⟩, by rw [jf_neg (by omega)]; exact f17, fun q => absurd q (show ¬ (0 : Int) = 6 by decide), fun _ => by rw [jf_neg (by omega)]; exact f18, fun q => absurd q (show ¬ ((0 : Int) = 2 ∨ (0 : Int) = 3) by decide), fun q => absurd q (show ¬ (0 : Int) = 5 by decide), fun q => absurd q (show ¬ (0 : Int) = 4 by decide)⟩
    have sub : ∀ (Y : Option (jS × Int)) W, jE Y (fun q => yRd s2 q.1 U ∧ tkS q.1 U g n W) → jE (Y.bind fun q => some (q.1, (0 : Int))) fun q => yRd t q.1 U ∧ tkS q.1 U g n W := fun Y W hY => jS_call hY fun z hz => jS_end ⟨K.trans hz.1, hz.2⟩
    rw [hw.1]
    unfold wd1
    by_cases c0 : r = n
    · have : bt g n r = -1 := bt_out (by omega)
      rw [if_pos c0, if_pos (.inr this)]; exact e154
    have rn : r < n := by omega
    rw [if_neg c0, y_lt hw r0 rn, show g r = bt g n r from (bt_in rn).symm]
    have nb : ¬ bt g n r = -1 := fun z => by have := (bt_lo (k := r) hb r0).2.2; omega
    by_cases c1 : bt g n r = 10
    · rw [if_pos c1, if_pos (.inl c1)]; exact e154
    rw [if_neg c1, if_neg (fun z => z.elim c1 nb), y_lt hw r0 rn, show g r = bt g n r from (bt_in rn).symm, y_isBg, Option.bind_some]
    by_cases c2 : isBg (bt g n r)
    · rw [cif_pos c2, if_neg (by decide), cif_pos c2]; exact sub _ _ (y_name hw f17 f18 r0 rn)
    rw [cif_neg c2, if_pos rfl, cif_neg c2, y_isDg, Option.bind_some]
    by_cases c3 : isDg (bt g n r)
    · rw [cif_pos c3, if_neg (by decide), cif_pos c3]; exact sub _ _ (y_number hw f17 r0 rn c3)
    rw [cif_neg c3, if_pos rfl, cif_neg c3]
    by_cases c4 : bt g n r = 39
    · rw [if_pos c4, if_pos c4]; exact sub _ _ (y_character hw f17 r0 rn)
    rw [if_neg c4, if_neg c4]
    by_cases c5 : bt g n r = 34
    · rw [if_pos c5, if_pos c5]; exact sub _ _ (y_string hw f17 r0 rn)
    rw [if_neg c5, if_neg c5]; exact sub _ _ (y_sign hw f17 r0 rn)
  unfold wd
  generalize up g n spP p = q0 at *
  rw [em_X39_next]; unfold dm_X39_next
  rw [h18, eu_X39_next_5]; unfold du_X39_next_5
  have st : ∀ k, p ≤ k → k < q0 → k < n := fun k k0 k1 => bt_ne hb (by omega) (by have := s2 k k0 k1; unfold spP at this; omega)
  rw [jstep1 (A := jc2 b_X39_next_5) (s := t) (fun k => [U, k]) p q0 s1 (fun k k0 k1 => by
    show b_X39_next_5 t U k = _
    unfold b_X39_next_5
    have hk := st k k0 k1
    have hP := s2 k k0 k1
    unfold spP at hP
    rw [bt_in hk] at hP
    have e35 : u_X39_next_35 t U k = some (.inl (t, [U, k + 1])) := by rw [eu_X39_next_35]; unfold du_X39_next_35; rw [W32_in (by omega) (by omega)]
    rw [h.1, if_pos hk, y_lt h (by omega) hk, y_lt h (by omega) hk, e35]
    by_cases c : g k = 32
    · rw [if_pos c]
    · rw [if_neg c, if_pos (hP.resolve_left c)])]
  have ex : ∀ Y : Option (jS × Int), u_X39_next_41 t U q0 = Y → jlpW (jc2 b_X39_next_5) [U, q0] t = Y := fun Y hY => jlpW_r (by
    show b_X39_next_5 t U q0 = _
    unfold b_X39_next_5
    rw [h.1, hY]
    unfold spP at s3
    by_cases c : q0 < n
    · rw [bt_in c] at s3
      rw [if_pos c, y_lt h (by omega) c, y_lt h (by omega) c, if_neg (fun z => s3 (.inl z)), if_neg (fun z => s3 (.inr z))]
    · rw [if_neg c])
  rw [ex _ rfl, eu_X39_next_41]; unfold du_X39_next_41
  rw [h.1]
  by_cases c0 : q0 < n
  rotate_left
  · have : bt g n q0 = -1 := bt_out (by omega)
    rw [if_neg c0, this, if_neg (by decide)]; exact main q0 (by omega) s4
  rw [if_pos c0, y_lt h (by omega) c0, show g q0 = bt g n q0 from (bt_in c0).symm]
  by_cases c1 : bt g n q0 = 35
  rotate_left
  · rw [if_neg c1, if_neg c1]; exact main q0 (by omega) s4
  rw [if_pos c1, if_pos c1]
  obtain ⟨⟨d1, d2, d3⟩, d4⟩ := up_to (g := g) (n := n) (P := cmP) (p := q0) (by unfold cmP; omega) s4
  generalize up g n cmP q0 = q1 at *
  rw [eu_X39_next_60]; unfold du_X39_next_60
  rw [jstep1 (A := jc2 b_X39_next_60) (s := t) (fun k => [U, k]) q0 q1 d1 (fun k k0 k1 => by
    show b_X39_next_60 t U k = _
    unfold b_X39_next_60
    have hP := d2 k k0 k1
    unfold cmP at hP
    have hk : k < n := bt_ne hb (by omega) hP.2.1
    rw [bt_in hk] at hP
    have e119 : u_X39_next_119 t U k = some (.inl (t, [U, k + 1])) := by rw [eu_X39_next_119]; unfold du_X39_next_119; rw [W32_in (by omega) (by omega)]
    have e101 : g k = 9 → u_X39_next_101 t U k = some (.inl (t, [U, k + 1])) := fun z => by rw [eu_X39_next_101]; unfold du_X39_next_101; rw [y_lt h (by omega) hk, if_pos z, e119]
    rw [h.1, if_pos hk, y_lt h (by omega) hk, if_neg hP.1, y_lt h (by omega) hk, y_lt h (by omega) hk, e119]
    by_cases c : g k < 32
    · rw [if_pos c, e101 (by omega)]
    · rw [if_neg c, if_neg (by omega)])]
  unfold cmP at d3
  by_cases d5 : bt g n q1 = 10 ∨ bt g n q1 = -1
  · rw [if_pos d5, jlpW_r (r := u_X39_next_125 t U q1) (by
      show b_X39_next_60 t U q1 = _
      unfold b_X39_next_60
      rw [h.1]
      by_cases c : q1 < n
      · have : bt g n q1 = 10 := d5.resolve_right (fun z => by have := (bt_lo (k := q1) hb (by omega)).2.2; omega)
        rw [bt_in c] at this
        rw [if_pos c, y_lt h (by omega) c, if_pos this]
      · rw [if_neg c])]
    exact main q1 (by omega) d4
  · have hk : q1 < n := bt_ne hb (by omega) (fun z => d5 (.inr z))
    have e112 : u_X39_next_112 t U q1 = some (jp (jp (jp t 43 U 15 6) 43 U 16 1) 43 U 17 q1, 0) := by
      rw [eu_X39_next_112]; unfold du_X39_next_112; rw [y_bad, Option.bind_some]
    rw [if_neg d5, jlpW_r (r := u_X39_next_112 t U q1) (by
      show b_X39_next_60 t U q1 = _
      unfold b_X39_next_60
      rw [bt_in hk] at d3 d5
      have e101 : u_X39_next_101 t U q1 = jinr (u_X39_next_112 t U q1) := by rw [eu_X39_next_101]; unfold du_X39_next_101; rw [y_lt h (by omega) hk, if_neg (by omega)]
      rw [h.1, if_pos hk, y_lt h (by omega) hk, if_neg (fun z => d5 (.inl z)), y_lt h (by omega) hk, y_lt h (by omega) hk, e101]
      by_cases c : g q1 < 32
      · rw [if_pos c]
      · rw [if_neg c, if_pos (by omega)]), e112]
    exact jS_end ⟨yRd.rfl.bad, tkS.bad rfl⟩
end jTlex4
