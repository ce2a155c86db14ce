/-! the twin reads words -/
section jTlex
variable {t u w : jS} {U n p q r k c f v y e : Int} {g : Int → Int} {W : wR4}
/-- the twin's text -/
def tdI (t : jS) (U : Int) (g : Int → Int) (n : Int) : Prop := jf t 43 U 3 = n ∧ (∀ k, 0 ≤ k → k < n → jf t 1000 (U + 2) k = g k) ∧ byG g n ∧ 0 ≤ n ∧ n ≤ 640
/-- only the word at hand -/
def yRd (t w : jS) (U : Int) : Prop := jSm t w ∧ ∀ c a k, ¬ (c = 43 ∧ a = U ∧ (k = 11 ∨ 15 ≤ k ∧ k ≤ 18)) → ¬ (c = 1000 ∧ a = U + 15) → jf w c a k = jf t c a k
theorem yRd.rfl : yRd t t U := ⟨jSm.rfl, fun _ _ _ _ _ => Eq.refl _⟩
theorem yRd.trans (h : yRd t u U) (k : yRd u w U) : yRd t w U := ⟨jSm.trans h.1 k.1, fun c a j z z' => (k.2 c a j z z').trans (h.2 c a j z z')⟩
theorem yRd.slt (h : yRd t u U) (hk : k = 11 ∨ 15 ≤ k ∧ k ≤ 18) : yRd t (jp u 43 U k v) U := ⟨h.1.jp, fun c a j z z' => by rw [jf_neg (fun q => z ⟨q.1, q.2.1, by rw [q.2.2]; exact hk⟩)]; exact h.2 c a j z z'⟩
theorem yRd.sp (h : yRd t u U) : yRd t (jp u 1000 (U + 15) k v) U := ⟨h.1.jp, fun c a j z z' => by rw [jf_neg (fun q => z' ⟨q.1, q.2.1⟩)]; exact h.2 c a j z z'⟩
theorem tdI.kp (h : tdI t U g n) (k : yRd t w U) : tdI w U g n := ⟨by rw [k.2 _ _ _ (by omega) (by omega)]; exact h.1, fun j j0 j1 => by rw [k.2 _ _ _ (by omega) (by omega)]; exact h.2.1 j j0 j1, h.2.2⟩
theorem y_at (h : tdI t U g n) (k0 : 0 ≤ k) : m_X39_at t U k = some (if k < n then g k else 10) := by
  obtain ⟨h1, h2, h3, h4, h5⟩ := h
  rw [em_X39_at]; unfold dm_X39_at
  rw [h1]
  by_cases c : k < n
  · rw [if_pos c, if_pos c, jlt_in k0 (by omega), Option.bind_some, h2 k k0 c]
  · rw [if_neg c, if_neg c]
theorem y_lt (h : tdI t U g n) (k0 : 0 ≤ k) (k1 : k < n) {S : Type} {K : Int → Option S} : (jlt t 1000 (U + 2) 3000 k).bind K = K (g k) := by
  obtain ⟨h1, h2, h3, h4, h5⟩ := h
  rw [jlt_in k0 (by omega), Option.bind_some, h2 k k0 k1]
theorem y_isDg : m_X39_isDigit t c = some (cif (isDg c) 1 0) := by
  rw [e_X39_isDigit]; unfold isDg
  by_cases h : 48 ≤ c ∧ c ≤ 57
  · rw [cif_pos h, if_pos (by omega)]
  · rw [cif_neg h, if_neg (by omega)]
theorem y_isBg : m_X39_isLetter t c = some (cif (isBg c) 1 0) := by
  rw [em_X39_isLetter]; unfold dm_X39_isLetter
  simp only [em_X39_isLetter, dm_X39_isLetter, eu_X39_isLetter_24, du_X39_isLetter_24, eu_X39_isLetter_12, du_X39_isLetter_12, Wz_0, Wz_1]
  by_cases h : isBg c
  · rw [cif_pos h]; unfold isBg at h
    by_cases h1 : c < 97
    · rw [if_pos h1]
      by_cases h2 : c < 65
      · rw [if_pos h2, if_neg (by omega), if_pos (by omega)]
      · rw [if_neg h2]
        by_cases h3 : 90 < c
        · rw [if_pos h3, if_pos (by omega)]
        · rw [if_neg h3]
    · rw [if_neg h1, if_neg (by omega)]
  · rw [cif_neg h]; unfold isBg at h
    by_cases h1 : c < 97
    · rw [if_pos h1]
      by_cases h2 : c < 65
      · rw [if_pos h2, if_neg (by omega), if_neg (by omega)]
      · rw [if_neg h2, if_pos (by omega), if_neg (by omega), if_neg (by omega)]
    · rw [if_neg h1, if_pos (by omega), if_neg (by omega), if_pos (by omega), if_neg (by omega), if_neg (by omega)]
theorem y_isIn : m_X39_isInName t c = some (cif (isIn c) 1 0) := by
  rw [em_X39_isInName]; unfold dm_X39_isInName
  rw [y_isBg, Option.bind_some]
  by_cases h : isBg c
  · rw [cif_pos h, if_neg (by decide), Wz_1, cif_pos (.inl h)]
  · rw [cif_neg h, if_pos rfl, y_isDg, Option.bind_some]
    by_cases h1 : isDg c
    · rw [cif_pos h1, if_neg (by decide), Wz_1, cif_pos (.inr (.inl h1))]
    · rw [cif_neg h1, if_pos rfl, Wz_0, Wz_1]
      by_cases h2 : c = 36
      · rw [if_pos h2, cif_pos (.inr (.inr h2))]
      · rw [if_neg h2, cif_neg (fun z => z.elim h fun z => z.elim h1 h2)]
/-- a digit's value here and there -/
theorem y_hx (h0 : 0 ≤ c) (h1 : c < 256) : ∃ z, m_X39_digitOf t c = some z ∧ (z = hxO c ∧ hxO c < 16 ∨ z = 99 ∧ hxO c = 16) := by
  rw [em_X39_digitOf]; unfold dm_X39_digitOf
  rw [y_isDg, Option.bind_some]; unfold hxO
  by_cases h : 48 ≤ c ∧ c ≤ 57
  · rw [cif_pos (show isDg c from h), if_neg (by decide), if_pos h, W32_in (by omega) (by omega)]
    exact ⟨_, rfl, .inl ⟨rfl, by omega⟩⟩
  · rw [cif_neg (show ¬ isDg c from h), if_pos rfl, if_neg h]
    simp only [em_X39_digitOf, dm_X39_digitOf, eu_X39_digitOf_31, du_X39_digitOf_31]
    by_cases h2 : c < 97
    · rw [if_pos h2, if_neg (show ¬ (97 ≤ c ∧ c ≤ 102) by omega)]
      by_cases h3 : c < 65
      · rw [if_pos h3, if_neg (by omega)]; exact ⟨_, rfl, .inr ⟨rfl, rfl⟩⟩
      · rw [if_neg h3]
        by_cases h4 : 70 < c
        · rw [if_pos h4, if_neg (by omega)]; exact ⟨_, rfl, .inr ⟨rfl, rfl⟩⟩
        · rw [if_neg h4, if_pos (by omega), W32_in (z := c - 55) (by omega) (by omega)]; exact ⟨_, rfl, .inl ⟨rfl, by omega⟩⟩
    · rw [if_neg h2]
      by_cases h3 : 102 < c
      · rw [if_pos h3, if_neg (show ¬ c < 65 by omega), if_pos (show 70 < c by omega), if_neg (by omega), if_neg (by omega)]; exact ⟨_, rfl, .inr ⟨rfl, rfl⟩⟩
      · rw [if_neg h3, if_pos (by omega), W32_in (z := c - 87) (by omega) (by omega)]; exact ⟨_, rfl, .inl ⟨rfl, by omega⟩⟩
def sgT (v : Int) : Int := if v = 256 then 300 else if v = 257 then 301 else v
/-- the word at hand -/
def tkS (w : jS) (U : Int) (g : Int → Int) (n : Int) (W : wR4) : Prop := jf w 43 U 15 = W.1 ∧ jf w 43 U 17 = W.2.2.1 ∧ (W.1 = 6 → jf w 43 U 16 = W.2.1) ∧ (¬ W.1 = 6 → jf w 43 U 18 = W.2.2.2) ∧ (W.1 = 2 ∨ W.1 = 3 → jf w 43 U 16 = W.2.1) ∧ (W.1 = 5 → jf w 43 U 16 = sgT W.2.1) ∧ (W.1 = 4 → jf w 43 U 11 = stM g n W.2.2.1 ∧ ∀ j : Nat, j < stM g n W.2.2.1 → jf w 1000 (U + 15) j = inV g n (stQ g n W.2.2.1 j))
theorem y_bad : m_X39_bad t U f p = some (jp (jp (jp t 43 U 15 6) 43 U 16 f) 43 U 17 p, 0) := by
  rw [em_X39_bad]; unfold dm_X39_bad; rfl
theorem tkS.bad (hp : W = (6, f, p, 0)) : tkS (jp (jp (jp t 43 U 15 6) 43 U 16 f) 43 U 17 p) U g n W := by
  subst hp
  refine ⟨?_, jf_pos ⟨rfl, rfl, rfl⟩, fun _ => ?_, fun z => absurd rfl z, fun z => absurd z (show ¬ ((6 : Int) = 2 ∨ (6 : Int) = 3) by decide), fun z => absurd z (show ¬ (6 : Int) = 5 by decide), fun z => absurd z (show ¬ (6 : Int) = 4 by decide)⟩
  · show _ = (6 : Int)
    (repeat (first | rw [jf_neg (by omega)] | rw [jf_pos (by omega)] | rw [ou_neg (by omega)] | rw [ou_pos (by omega)]))
  · show _ = f
    (repeat (first | rw [jf_neg (by omega)] | rw [jf_pos (by omega)] | rw [ou_neg (by omega)] | rw [ou_pos (by omega)]))
theorem yRd.bad (h : yRd t u U) : yRd t (jp (jp (jp u 43 U 15 6) 43 U 16 f) 43 U 17 p) U := ((h.slt (by omega)).slt (by omega)).slt (by omega)
theorem y_name (h : tdI t U g n) (h17 : jf t 43 U 17 = r) (h18 : jf t 43 U 18 = r) (r0 : 0 ≤ r) (r1 : r < n) : jE (m_X39_nameWord t U) fun q => yRd t q.1 U ∧ tkS q.1 U g n (wdI g n r) := by
  obtain ⟨-, -, hb, n0, n1⟩ := id h
  obtain ⟨⟨s1, s2, s3⟩, s4⟩ := up_to (g := g) (n := n) (P := isIn) (p := r) (by unfold isIn isBg isDg; omega) (by omega)
  unfold wdI
  generalize up g n isIn r = q1 at *
  rw [em_X39_nameWord]; unfold dm_X39_nameWord
  rw [eu_X39_nameWord_0]; unfold du_X39_nameWord_0
  refine jS_for (fun k w => yRd t w U ∧ jf w 43 U 18 = k ∧ jf w 43 U 17 = r) (fun _ => [U]) r q1 s1 ⟨yRd.rfl, h18, h17⟩ (fun k w k0 k1 ⟨e1, e2, e3⟩ => ?_) (fun w ⟨e1, e2, e3⟩ => ?_)
  · show jE (b_X39_nameWord_0 w U) _
    unfold b_X39_nameWord_0
    have hw := h.kp e1
    have hs := s2 k k0 k1
    rw [bt_in (by omega)] at hs
    rw [e2, hw.1, if_pos (by omega), y_lt hw (by omega) (by omega), y_isIn, Option.bind_some, cif_pos hs, if_neg (by decide)]
    simp only [jls]
    rw [W32_in (by omega) (by omega)]
    exact jS_end ⟨rfl, e1.slt (by omega), jf_pos ⟨rfl, rfl, rfl⟩, by rw [jf_neg (by omega)]; exact e3⟩
  show jE (b_X39_nameWord_0 w U) _
  unfold b_X39_nameWord_0
  have hw := h.kp e1
  have fin : jE (u_X39_nameWord_39 w U) fun q => yRd t q.1 U ∧ tkS q.1 U g n (if 16 < q1 - r then (6, 2, r, 0) else if q1 - r = 1 ∧ bt g n r = 46 then (7, 0, r, q1) else (1, 0, r, q1)) := by
    have e73 : ∀ z, (z = 1 ∨ z = 7) → (¬ 16 < q1 - r → (if q1 - r = 1 ∧ bt g n r = 46 then ((7, 0, r, q1) : wR4) else (1, 0, r, q1)) = (z, 0, r, q1)) → jE (u_X39_nameWord_73 w U z U) fun q => yRd t q.1 U ∧ tkS q.1 U g n (if 16 < q1 - r then (6, 2, r, 0) else if q1 - r = 1 ∧ bt g n r = 46 then (7, 0, r, q1) else (1, 0, r, q1)) := fun z hz hw' => by
      rw [eu_X39_nameWord_73]; unfold du_X39_nameWord_73
      simp only [jls]
      rw [jf_neg (by omega), jf_neg (by omega), e2, e3, W32_in (by omega) (by omega)]
      by_cases c : 16 < q1 - r
      · rw [if_pos c, if_pos c, y_bad, Option.bind_some]
        exact jS_end ⟨(e1.slt (by omega)).bad, tkS.bad rfl⟩
      · rw [if_neg c, if_neg c, hw' c]
        refine jS_end ⟨e1.slt (by omega), jf_pos ⟨rfl, rfl, rfl⟩, ?_, fun q => absurd q (by show ¬ z = 6; omega), fun _ => ?_, fun q => absurd q (by show ¬ (z = 2 ∨ z = 3); omega), fun q => absurd q (by show ¬ z = 5; omega), fun q => absurd q (by show ¬ z = 4; omega)⟩
        · rw [jf_neg (by omega)]; exact e3
        · rw [jf_neg (by omega)]; exact e2
    rw [eu_X39_nameWord_39]; unfold du_X39_nameWord_39
    rw [e2, e3, W32_in (by omega) (by omega), y_lt hw r0 r1, eu_X39_nameWord_72]; unfold du_X39_nameWord_72
    by_cases c1 : q1 - r = 1
    · rw [if_pos c1]
      by_cases c2 : g r = 46
      · rw [if_pos c2]; exact e73 7 (.inr rfl) fun _ => by rw [if_pos ⟨c1, by rw [bt_in r1]; exact c2⟩]
      · rw [if_neg c2]; exact e73 1 (.inl rfl) fun _ => by rw [if_neg (fun z => c2 (by rw [← bt_in (g := g) r1]; exact z.2))]
    · rw [if_neg c1]; exact e73 1 (.inl rfl) fun _ => by rw [if_neg (fun z => c1 z.1)]
  rw [e2, hw.1]
  by_cases c : q1 < n
  · rw [bt_in c] at s3
    rw [if_pos c, y_lt hw (by omega) c, y_isIn, Option.bind_some, cif_neg s3, if_pos rfl]
    exact jS_inr fin
  · rw [if_neg c]; exact jS_inr fin
end jTlex
