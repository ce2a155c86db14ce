/-! the twin's expressions: names, registers, marks, signs -/
section jTexpr1
variable {s t u w v' : jS} {U n p p' q r k c f v y e d o z a a' b' : Int} {g : Int → Int} {l m : List Int} {NL : List (List Int)} {W : wR4} {st st' : pS} {L L1 L2 : pI}
theorem wd1_I (hb : byG g n) (r0 : 0 ≤ r) (r1 : r ≤ n) (h : (wd1 g n r).1 = 1 ∨ (wd1 g n r).1 = 7) : wd1 g n r = wdI g n r ∧ r < n := by
  unfold wd1 at h ⊢
  by_cases c0 : bt g n r = 10 ∨ bt g n r = -1
  · rw [if_pos c0] at h; exact absurd h (by show ¬ ((0 : Int) = 1 ∨ (0 : Int) = 7); decide)
  rw [if_neg c0] at h ⊢
  have rn : r < n := bt_ne hb r0 (fun z => c0 (.inr z))
  by_cases c1 : isBg (bt g n r)
  · rw [cif_pos c1]; exact ⟨rfl, rn⟩
  rw [cif_neg c1] at h
  have ex : ∀ W : wR4, (W.1 = 1 ∨ W.1 = 7) → (W.1 = 6 ∨ W.1 = 2 ∨ W.1 = 3 ∨ W.1 = 4 ∨ W.1 = 5 ∨ W.1 = 0) → False := fun W h1 h2 => by omega
  refine (ex _ h ?_).elim
  by_cases c2 : isDg (bt g n r)
  · rw [cif_pos c2]
    unfold wdN
    split
    · have := wdG_nm (g := g) (n := n) (r := r) (f := r + 2) (e := 16); omega
    split
    · have := wdG_nm (g := g) (n := n) (r := r) (f := r + 2) (e := 2); omega
    by_cases c3 : (bt g n (r + 1) = 98 ∨ bt g n (r + 1) = 102) ∧ ¬ isIn (bt g n (r + 2))
    · rw [cif_pos c3]; show (3 : Int) = 6 ∨ (3 : Int) = 2 ∨ (3 : Int) = 3 ∨ (3 : Int) = 4 ∨ (3 : Int) = 5 ∨ (3 : Int) = 0; decide
    · rw [cif_neg c3]; have := wdG_nm (g := g) (n := n) (r := r) (f := r) (e := 10); omega
  rw [cif_neg c2]
  have h6 : (6 : Int) = 6 ∨ (6 : Int) = 2 ∨ (6 : Int) = 3 ∨ (6 : Int) = 4 ∨ (6 : Int) = 5 ∨ (6 : Int) = 0 := by decide
  split
  · unfold wdC
    by_cases c3 : inOK g n (r + 1) 39 ∧ bt g n (inT g n (r + 1)) = 39
    · rw [cif_pos c3]; show (2 : Int) = 6 ∨ (2 : Int) = 2 ∨ (2 : Int) = 3 ∨ (2 : Int) = 4 ∨ (2 : Int) = 5 ∨ (2 : Int) = 0; decide
    · rw [cif_neg c3]; exact h6
  split
  · unfold wdS
    split
    · show (4 : Int) = 6 ∨ (4 : Int) = 2 ∨ (4 : Int) = 3 ∨ (4 : Int) = 4 ∨ (4 : Int) = 5 ∨ (4 : Int) = 0; decide
    · exact h6
  · unfold wdY
    split
    · show (5 : Int) = 6 ∨ (5 : Int) = 2 ∨ (5 : Int) = 3 ∨ (5 : Int) = 4 ∨ (5 : Int) = 5 ∨ (5 : Int) = 0; decide
    · by_cases c3 : sgOK (bt g n r)
      · rw [cif_pos c3]; show (5 : Int) = 6 ∨ (5 : Int) = 2 ∨ (5 : Int) = 3 ∨ (5 : Int) = 4 ∨ (5 : Int) = 5 ∨ (5 : Int) = 0; decide
      · rw [cif_neg c3]; exact h6
theorem wdI_in (r0 : 0 ≤ r) (r1 : r < n) (h : (wdI g n r).1 = 1 ∨ (wdI g n r).1 = 7) : (wdI g n r).2.2.1 = r ∧ ∀ k, r ≤ k → k < (wdI g n r).2.2.2 → isIn (bt g n k) := by
  obtain ⟨⟨s1, s2, s3⟩, s4⟩ := up_to (g := g) (n := n) (P := isIn) (p := r) (by unfold isIn isBg isDg; omega) (by omega)
  unfold wdI at h ⊢
  generalize up g n isIn r = q1 at *
  split at h
  · exact absurd h (by show ¬ ((6 : Int) = 1 ∨ (6 : Int) = 7); decide)
  · rename_i z
    rw [if_neg z]
    split
    · exact ⟨rfl, s2⟩
    · exact ⟨rfl, s2⟩
/-- the bytes of a name may lie in names -/
theorem wd_isIn (hb : byG g n) (p0 : 0 ≤ p) (p1 : p ≤ n) (h : (wd g n p).1 = 1 ∨ (wd g n p).1 = 7) : ∀ k, (wd g n p).2.2.1 ≤ k → k < (wd g n p).2.2.2 → isIn (bt g n k) := by
  obtain ⟨⟨s1, s2, s3⟩, s4⟩ := up_to (g := g) (n := n) (P := spP) (by unfold spP; omega) p1
  unfold wd at h ⊢
  generalize up g n spP p = q0 at *
  have fin : ∀ r, 0 ≤ r → r ≤ n → ((wd1 g n r).1 = 1 ∨ (wd1 g n r).1 = 7) → ∀ k, (wd1 g n r).2.2.1 ≤ k → k < (wd1 g n r).2.2.2 → isIn (bt g n k) := fun r r0 r1 h => by
    obtain ⟨h1, h2⟩ := wd1_I hb r0 r1 h
    rw [h1] at h ⊢
    obtain ⟨h3, h4⟩ := wdI_in r0 h2 h
    rw [h3]; exact h4
  by_cases c : bt g n q0 = 35
  · rw [if_pos c] at h ⊢
    obtain ⟨⟨d1, d2, d3⟩, d4⟩ := up_to (g := g) (n := n) (P := cmP) (p := q0) (by unfold cmP; omega) s4
    generalize up g n cmP q0 = q1 at *
    by_cases c2 : bt g n q1 = 10 ∨ bt g n q1 = -1
    · rw [if_pos c2] at h ⊢; exact fin q1 (by omega) d4 h
    · rw [if_neg c2] at h; exact absurd h (by show ¬ ((6 : Int) = 1 ∨ (6 : Int) = 7); decide)
  · rw [if_neg c] at h ⊢; exact fin q0 (by omega) s4 h
theorem isIn_lo (h : isIn c) : 36 ≤ c ∧ c ≤ 122 := by unfold isIn isBg isDg at h; omega
theorem nmO_at {i : Nat} (h : (i : Int) < q - r) : (nmO g r q).getD i 0 = g (r + i) := by
  unfold nmO
  rw [List.getD_eq_getElem?_getD, List.getElem?_map, List.getElem?_range (by omega)]; rfl
theorem nmO_out {i : Nat} (h : ¬ (i : Int) < q - r) : (nmO g r q).getD i 0 = 0 := by
  unfold nmO
  rw [List.getD_eq_getElem?_getD, List.getElem?_map, List.getElem?_eq_none (by simp; omega)]; rfl
/-- the name at hand -/
def nmT (t : jS) (U : Int) (g : Int → Int) (n : Int) (l : List Int) : Prop := tdI t U g n ∧ ∃ r q, 0 ≤ r ∧ r ≤ q ∧ q ≤ n ∧ q - r ≤ 16 ∧ jf t 43 U 17 = r ∧ jf t 43 U 18 = q ∧ l = nmO g r q ∧ ∀ k, r ≤ k → k < q → ¬ g k = 0
theorem tkS.nm (h : tkS t U g n (wd g n p)) (I : tdI t U g n) (p0 : 0 ≤ p) (p1 : p ≤ n) (hk : (wd g n p).1 = 1 ∨ (wd g n p).1 = 7) : nmT t U g n (nmO g (wd g n p).2.2.1 (wd g n p).2.2.2) := by
  have hw := wd_in I.2.2.1 p0 p1
  have h6 : ¬ (wd g n p).1 = 6 := by omega
  have hi := wd_isIn I.2.2.1 p0 p1 hk
  have h7 := hw.2.2.2.1 h6
  refine ⟨I, (wd g n p).2.2.1, (wd g n p).2.2.2, by omega, h7.1, h7.2.1, hw.2.2.2.2.1 hk, h.2.1, h.2.2.2.1 h6, rfl, fun k k0 k1 => ?_⟩
  have := isIn_lo (hi k k0 k1)
  rw [bt_in (by omega)] at this
  omega
theorem nmT.len (h : nmT t U g n l) : W32 (jf t 43 U 18 - jf t 43 U 17) = l.length ∧ l.length ≤ 16 := by
  obtain ⟨I, r, q, r0, rq, qn, q16, h17, h18, hl, hz⟩ := h
  have := nmO_len (g := g) rq
  have hn := I.2.2.2
  rw [h17, h18, hl, W32_in (by omega) (by omega)]; omega
theorem nmT.nz (h : nmT t U g n l) {i : Nat} (hi : i < l.length) : ¬ l.getD i 0 = 0 := by
  obtain ⟨I, r, q, r0, rq, qn, q16, h17, h18, hl, hz⟩ := h
  have := nmO_len (g := g) rq
  rw [hl] at hi ⊢
  rw [nmO_at (by omega)]; exact hz _ (by omega) (by omega)
theorem y_by (h : nmT t U g n l) (i : Nat) (hi : i < 20) : m_X39_byteOf t U (i : Nat) = some (l.getD i 0) := by
  obtain ⟨I, r, q, r0, rq, qn, q16, h17, h18, hl, hz⟩ := h
  have hn := I.2.2.2
  rw [em_X39_byteOf]; unfold dm_X39_byteOf
  rw [h17, h18, W32_in (by omega) (by omega), hl]
  by_cases c : r + (i : Int) < q
  · rw [if_pos c, y_lt I (by omega) (by omega), nmO_at (by omega)]
  · rw [if_neg c, nmO_out (by omega)]
theorem is2 (hn : ∀ i : Nat, i < l.length → ¬ l.getD i 0 = 0) (ha : ¬ a = 0) (hb : ¬ b' = 0) : (l.getD 0 0 = a ∧ l.getD 1 0 = b' ∧ l.getD 2 0 = 0 ∧ l.getD 3 0 = 0) ↔ l = [a, b'] := by
  match l, hn with
  | [], _ => exact ⟨fun h => absurd h.1.symm ha, fun h => by cases h⟩
  | [x], _ => exact ⟨fun h => absurd h.2.1.symm hb, fun h => by cases h⟩
  | [x, y], _ => exact ⟨fun h => by rw [show x = a from h.1, show y = b' from h.2.1], fun h => by cases h; exact ⟨rfl, rfl, rfl, rfl⟩⟩
  | x :: y :: z :: l, hn => exact ⟨fun h => absurd h.2.2.1 (hn 2 (by show 2 < l.length + 1 + 1 + 1; omega)), fun h => by cases h⟩
theorem is4 {c' d' : Int} (hn : ∀ i : Nat, i < l.length → ¬ l.getD i 0 = 0) (ha : ¬ a = 0) (hb : ¬ b' = 0) (hc : ¬ c' = 0) (hd : ¬ d' = 0) : (l.getD 0 0 = a ∧ l.getD 1 0 = b' ∧ l.getD 2 0 = c' ∧ l.getD 3 0 = d' ∧ l.getD 4 0 = 0) ↔ l = [a, b', c', d'] := by
  match l, hn with
  | [], _ => exact ⟨fun h => absurd h.1.symm ha, fun h => by cases h⟩
  | [x], _ => exact ⟨fun h => absurd h.2.1.symm hb, fun h => by cases h⟩
  | [x, y], _ => exact ⟨fun h => absurd h.2.2.1.symm hc, fun h => by cases h⟩
  | [x, y, z], _ => exact ⟨fun h => absurd h.2.2.2.1.symm hd, fun h => by cases h⟩
  | [x, y, z, w], _ => exact ⟨fun h => by rw [show x = a from h.1, show y = b' from h.2.1, show z = c' from h.2.2.1, show w = d' from h.2.2.2.1], fun h => by cases h; exact ⟨rfl, rfl, rfl, rfl, rfl⟩⟩
  | x :: y :: z :: w :: v :: l, hn => exact ⟨fun h => absurd h.2.2.2.2 (hn 4 (by show 4 < l.length + 1 + 1 + 1 + 1 + 1; omega)), fun h => by cases h⟩
theorem y_by0 (h : nmT t U g n l) : m_X39_byteOf t U 0 = some (l.getD 0 0) := y_by h 0 (by decide)
theorem y_by1 (h : nmT t U g n l) : m_X39_byteOf t U 1 = some (l.getD 1 0) := y_by h 1 (by decide)
theorem y_by2 (h : nmT t U g n l) : m_X39_byteOf t U 2 = some (l.getD 2 0) := y_by h 2 (by decide)
theorem y_by3 (h : nmT t U g n l) : m_X39_byteOf t U 3 = some (l.getD 3 0) := y_by h 3 (by decide)
theorem y_by4 (h : nmT t U g n l) : m_X39_byteOf t U 4 = some (l.getD 4 0) := y_by h 4 (by decide)
theorem y_by5 (h : nmT t U g n l) : m_X39_byteOf t U 5 = some (l.getD 5 0) := y_by h 5 (by decide)
theorem y_by6 (h : nmT t U g n l) : m_X39_byteOf t U 6 = some (l.getD 6 0) := y_by h 6 (by decide)
theorem y_by7 (h : nmT t U g n l) : m_X39_byteOf t U 7 = some (l.getD 7 0) := y_by h 7 (by decide)
theorem y_is2 (h : nmT t U g n l) (ha : ¬ a = 0) (hb : ¬ b' = 0) : m_X39_is t U a b' 0 0 = some (if l = [a, b'] then 1 else 0) := by
  have hi := is2 (l := l) (fun i hi => h.nz hi) ha hb
  rw [em_X39_is]; unfold dm_X39_is
  rw [y_by0 h, Option.bind_some]
  have no : ¬ l = [a, b'] → some (Wz 0) = some (if l = [a, b'] then (1 : Int) else 0) := fun z => by rw [if_neg z, Wz_0]
  by_cases c0 : l.getD 0 0 = a
  · rw [if_pos c0, y_by1 h, Option.bind_some]
    by_cases c1 : l.getD 1 0 = b'
    · rw [if_pos c1, y_by2 h, Option.bind_some]
      by_cases c2 : l.getD 2 0 = 0
      · rw [if_pos c2, y_by3 h, Option.bind_some]
        by_cases c3 : l.getD 3 0 = 0
        · rw [if_pos c3, if_pos rfl, if_pos (hi.mp ⟨c0, c1, c2, c3⟩), Wz_1]
        · rw [if_neg c3]; exact no fun z => c3 (hi.mpr z).2.2.2
      · rw [if_neg c2]; exact no fun z => c2 (hi.mpr z).2.2.1
    · rw [if_neg c1]; exact no fun z => c1 (hi.mpr z).2.1
  · rw [if_neg c0]; exact no fun z => c0 (hi.mpr z).1
theorem y_is4 {c' d' : Int} (h : nmT t U g n l) (ha : ¬ a = 0) (hb : ¬ b' = 0) (hc : ¬ c' = 0) (hd : ¬ d' = 0) : m_X39_is t U a b' c' d' = some (if l = [a, b', c', d'] then 1 else 0) := by
  have hi := is4 (l := l) (fun i hi => h.nz hi) ha hb hc hd
  rw [em_X39_is]; unfold dm_X39_is
  rw [y_by0 h, Option.bind_some]
  have no : ¬ l = [a, b', c', d'] → some (Wz 0) = some (if l = [a, b', c', d'] then (1 : Int) else 0) := fun z => by rw [if_neg z, Wz_0]
  by_cases c0 : l.getD 0 0 = a
  · rw [if_pos c0, y_by1 h, Option.bind_some]
    by_cases c1 : l.getD 1 0 = b'
    · rw [if_pos c1, y_by2 h, Option.bind_some]
      by_cases c2 : l.getD 2 0 = c'
      · rw [if_pos c2, y_by3 h, Option.bind_some]
        by_cases c3 : l.getD 3 0 = d'
        · rw [if_pos c3, if_neg hd, y_by4 h, Option.bind_some]
          by_cases c4 : l.getD 4 0 = 0
          · rw [if_pos c4, if_pos (hi.mp ⟨c0, c1, c2, c3, c4⟩), Wz_1]
          · rw [if_neg c4]; exact no fun z => c4 (hi.mpr z).2.2.2.2
        · rw [if_neg c3]; exact no fun z => c3 (hi.mpr z).2.2.2.1
      · rw [if_neg c2]; exact no fun z => c2 (hi.mpr z).2.2.1
    · rw [if_neg c1]; exact no fun z => c1 (hi.mpr z).2.1
  · rw [if_neg c0]; exact no fun z => c0 (hi.mpr z).1
/-- a register by its name -/
theorem y_reg200 (h : nmT t U g n l) (v0 : 0 ≤ v) (v1 : v < 100) : u_X39_register_200 t U v = some (rgV (l.getD 0 0) v) := by
  rw [eu_X39_register_200]; unfold du_X39_register_200 rgV
  rw [y_by0 h, Option.bind_some]
  rw [W32_in (z := 10 + v) (by omega) (by omega), W32_in (z := 8 + v) (by omega) (by omega), W32_in (z := 16 + v) (by omega) (by omega), W32_in (z := 5 + v) (by omega) (by omega), W32_in (z := 25 + v) (by omega) (by omega)]
  split
  · split <;> rfl
  split
  · split
    · rfl
    · split <;> rfl
  split
  · split
    · rfl
    · split <;> rfl
  split
  · split <;> rfl
  · rfl
theorem y_register (h15 : jf t 43 U 15 = 1) (h : nmT t U g n l) : m_X39_register t U = some (rgO l) := by
  obtain ⟨hl, h16⟩ := h.len
  have hb : ∀ i, -1 ≤ l.getD i 0 → True := fun _ _ => trivial
  rw [em_X39_register]; unfold dm_X39_register rgO
  rw [if_pos h15]
  rw [y_is4 h (by decide) (by decide) (by decide) (by decide), Option.bind_some, show cS 182 = [122, 101, 114, 111] by decide]
  by_cases c1 : l = [122, 101, 114, 111]
  · rw [if_pos c1, if_pos c1, if_neg (by decide)]
  rw [if_neg c1, if_neg c1, if_pos rfl, y_is2 h (by decide) (by decide), Option.bind_some, show cS 183 = [114, 97] by decide]
  by_cases c2 : l = [114, 97]
  · rw [if_pos c2, if_pos c2, if_neg (by decide)]
  rw [if_neg c2, if_neg c2, if_pos rfl, y_is2 h (by decide) (by decide), Option.bind_some, show cS 184 = [115, 112] by decide]
  by_cases c3 : l = [115, 112]
  · rw [if_pos c3, if_pos c3, if_neg (by decide)]
  rw [if_neg c3, if_neg c3, if_pos rfl, y_is2 h (by decide) (by decide), Option.bind_some, show cS 185 = [103, 112] by decide]
  by_cases c4 : l = [103, 112]
  · rw [if_pos c4, if_pos c4, if_neg (by decide)]
  rw [if_neg c4, if_neg c4, if_pos rfl, y_is2 h (by decide) (by decide), Option.bind_some, show cS 186 = [116, 112] by decide]
  by_cases c5 : l = [116, 112]
  · rw [if_pos c5, if_pos c5, if_neg (by decide)]
  rw [if_neg c5, if_neg c5, if_pos rfl, y_is2 h (by decide) (by decide), Option.bind_some, show cS 187 = [102, 112] by decide]
  by_cases c6 : l = [102, 112]
  · rw [if_pos c6, if_pos c6, if_neg (by decide)]
  rw [if_neg c6, if_neg c6, if_pos rfl, hl, W32_in (by omega) (by omega)]
  simp only [jlet]
  unfold rgN
  have no : (¬ (l.length = 2 ∧ isDg (l.getD 1 0))) → ¬ (l.length = 3 ∧ isDg (l.getD 1 0) ∧ isDg (l.getD 2 0) ∧ ¬ l.getD 1 0 = 48) → some (-1 : Int) = some (cif (l.length = 2 ∧ isDg (l.getD 1 0)) (rgV (l.getD 0 0) (l.getD 1 0 - 48)) (cif (l.length = 3 ∧ isDg (l.getD 1 0) ∧ isDg (l.getD 2 0) ∧ ¬ l.getD 1 0 = 48) (rgV (l.getD 0 0) (10 * (l.getD 1 0 - 48) + l.getD 2 0 - 48)) (-1))) := fun z1 z2 => by rw [cif_neg z1, cif_neg z2]
  by_cases k1 : (l.length : Int) - 1 < 1
  · rw [if_pos k1]; exact no (by omega) (by omega)
  rw [if_neg k1]
  by_cases k2 : 2 < (l.length : Int) - 1
  · rw [if_pos k2]; exact no (by omega) (by omega)
  rw [if_neg k2, y_by1 h, Option.bind_some, y_isDg, Option.bind_some]
  by_cases k3 : isDg (l.getD 1 0)
  · rw [cif_pos k3, if_neg (by decide)]
    have d1 : 48 ≤ l.getD 1 0 ∧ l.getD 1 0 ≤ 57 := k3
    by_cases k4 : (l.length : Int) - 1 = 2
    · rw [if_pos k4, y_by2 h, Option.bind_some, y_isDg, Option.bind_some]
      by_cases k5 : isDg (l.getD 2 0)
      · have d2 : 48 ≤ l.getD 2 0 ∧ l.getD 2 0 ≤ 57 := k5
        rw [cif_pos k5, if_neg (by decide), Option.bind_some]
        by_cases k6 : l.getD 1 0 = 48
        · rw [if_pos k6]; exact no (by omega) (fun z => z.2.2.2 k6)
        · rw [if_neg k6, cif_neg (by omega), cif_pos ⟨by omega, k3, k5, k6⟩, eu_X39_register_164]; unfold du_X39_register_164
          rw [if_neg (by omega), y_by1 h, Option.bind_some, y_by2 h, Option.bind_some]
          simp only [jlet]
          rw [W32_in (z := l.getD 1 0 - 48) (by omega) (by omega), W32_in (z := 10 * (l.getD 1 0 - 48)) (by omega) (by omega), W32_in (z := 10 * (l.getD 1 0 - 48) + l.getD 2 0) (by omega) (by omega), W32_in (by omega) (by omega), y_reg200 h (by omega) (by omega)]
      · rw [cif_neg k5, if_pos rfl]; exact no (by omega) (fun z => k5 z.2.2.1)
    · rw [if_neg k4, cif_pos ⟨by omega, k3⟩, eu_X39_register_164]; unfold du_X39_register_164
      rw [if_pos (by omega), y_by1 h, Option.bind_some, W32_in (by omega) (by omega), y_reg200 h (by omega) (by omega)]
  · rw [cif_neg k3, if_pos rfl]; exact no (fun z => k3 z.2) (fun z => k3 z.2.1)
theorem y_regNo (h15 : ¬ jf t 43 U 15 = 1) : m_X39_register t U = some (-1) := by
  rw [em_X39_register]; unfold dm_X39_register
  rw [if_neg h15]
theorem y_isSign : m_X39_isSign t U v = some (if jf t 43 U 15 = 5 ∧ jf t 43 U 16 = v then 1 else 0) := by
  rw [em_X39_isSign]; unfold dm_X39_isSign
  rw [Wz_0, Wz_1]
  by_cases c1 : jf t 43 U 15 = 5
  · rw [if_pos c1]
    by_cases c2 : jf t 43 U 16 = v
    · rw [if_pos c2, if_pos ⟨c1, c2⟩]
    · rw [if_neg c2, if_neg (fun z => c2 z.2)]
  · rw [if_neg c1, if_neg (fun z => c1 z.1)]
theorem y_binds (h : 12 ≤ o ∧ o ≤ 21) : m_X39_binds t o = some (bnO o) := by
  rw [em_X39_binds]; unfold dm_X39_binds bnO
  have : o = 12 ∨ o = 13 ∨ o = 14 ∨ o = 15 ∨ o = 16 ∨ o = 17 ∨ o = 18 ∨ o = 19 ∨ o = 20 ∨ o = 21 := by omega
  rcases this with z | z | z | z | z | z | z | z | z | z <;> subst z <;> rfl
/-- the operator at hand -/
theorem y_operator (h : tkS t U g n W) (hv : W.1 = 5 → 0 ≤ W.2.1) (hv' : W.1 = 5 → ¬ W.2.1 = 300 ∧ ¬ W.2.1 = 301) : m_X39_operator t U = some (if opO W = -1 then 0 else opO W) := by
  rw [em_X39_operator]; unfold dm_X39_operator opO
  by_cases c5 : W.1 = 5
  · rw [if_pos (h.1.trans c5), if_pos c5]
    have e16 := h.2.2.2.2.2.1 c5
    have h300 := hv' c5
    rw [e16]; unfold srO' sgT
    by_cases c1 : W.2.1 = 256
    · rw [if_pos c1, c1]; rfl
    rw [if_neg c1]
    by_cases c2 : W.2.1 = 257
    · rw [if_pos c2, c2]; rfl
    rw [if_neg c2]
    by_cases z1 : W.2.1 = 37
    · rw [z1]; rfl
    rw [if_neg z1, if_neg z1]
    by_cases z2 : W.2.1 = 38
    · rw [z2]; rfl
    rw [if_neg z2, if_neg z2]
    by_cases z3 : W.2.1 = 42
    · rw [z3]; rfl
    rw [if_neg z3, if_neg z3]
    by_cases z4 : W.2.1 = 43
    · rw [z4]; rfl
    rw [if_neg z4, if_neg z4]
    by_cases z5 : W.2.1 = 45
    · rw [z5]; rfl
    rw [if_neg z5, if_neg z5]
    by_cases z6 : W.2.1 = 47
    · rw [z6]; rfl
    rw [if_neg z6, if_neg z6]
    by_cases z7 : W.2.1 = 94
    · rw [z7]; rfl
    rw [if_neg z7, if_neg z7]
    by_cases z8 : W.2.1 = 124
    · rw [z8]; rfl
    rw [if_neg z8, if_neg z8, if_neg h300.1, if_neg h300.2, if_neg c1, if_neg c2, if_pos rfl]
  · rw [if_neg (fun z => c5 (h.1.symm.trans z)), if_neg c5, if_pos rfl]
theorem opO_lo (h : ¬ opO W = -1) : W.1 = 5 ∧ 12 ≤ opO W ∧ opO W ≤ 21 := by
  unfold opO at h ⊢
  by_cases c5 : W.1 = 5
  · rw [if_pos c5] at h ⊢
    refine ⟨c5, ?_⟩
    unfold srO' at h ⊢
    repeat' split at h
    all_goals (first | omega | skip)
  · rw [if_neg c5] at h; exact absurd rfl h
end jTexpr1
