/-! the twin reads words: characters, strings, signs; the next word -/
section jTlex3
variable {t u w : jS} {U n p q r k c f v y e a' : Int} {g : Int → Int} {W : wR4} {R : Type}
/-- a loop with a state, up to its last round -/
theorem jstepS {A : List Int → jS → Option ((jS × List Int) ⊕ R)} (J : Int → jS → Prop) (V : Int → List Int) (lo hi : Int) (hn : lo ≤ hi) (h : J lo t) (st : ∀ k u, lo ≤ k → k < hi → J k u → ∃ u', A (V k) u = some (.inl (u', V (k + 1))) ∧ J (k + 1) u') : ∃ u, jlpW A (V lo) t = jlpW A (V hi) u ∧ J hi u := by
  obtain ⟨u, w, e1, -, e3, e4⟩ := jstep2 (A := A) (B := A) (s := t) (t := t) (fun k u w => u = w ∧ J k u) V V lo hi hn ⟨rfl, h⟩ (fun k u w k0 k1 ⟨e, hj⟩ => by
    subst e
    obtain ⟨u', a1, a2⟩ := st k u k0 k1 hj
    exact ⟨u', u', a1, a1, rfl, a2⟩)
  exact ⟨u, e1, e4⟩
theorem y_inside (h : tdI t U g n) (k0 : 0 ≤ k) (k1 : k ≤ 2000) : ∃ w z, m_X39_inside t U k a' = some (w, z) ∧ (jSm t w ∧ ∀ c a j, ¬ (c = 43 ∧ a = U ∧ j = 18) → jf w c a j = jf t c a j) ∧ (jf w 43 U 18 = k + 1 ∨ jf w 43 U 18 = k + 2) ∧ (inOK g n k a' → z = inV g n k ∧ jf w 43 U 18 = inT g n k) ∧ (¬ inOK g n k a' → z = -1) := by
  obtain ⟨-, -, hb, n0, n1⟩ := id h
  rw [em_X39_inside]; unfold dm_X39_inside
  rw [y_av h k0, Option.bind_some]
  simp only [jls]
  rw [W32_in (z := k + 1) (by omega) (by omega), W32_in (z := k + 2) (by omega) (by omega)]
  have fr1 : jSm t (jp t 43 U 18 (k + 1)) ∧ ∀ c a j, ¬ (c = 43 ∧ a = U ∧ j = 18) → jf (jp t 43 U 18 (k + 1)) c a j = jf t c a j := ⟨jSm.rfl.jp, fun c a j z => jf_neg (by omega)⟩
  have h1 : tdI (jp t 43 U 18 (k + 1)) U g n := h.kp (yRd.rfl.slt (by omega))
  have fr2 : jSm t (jp (jp t 43 U 18 (k + 1)) 43 U 18 (k + 2)) ∧ ∀ c a j, ¬ (c = 43 ∧ a = U ∧ j = 18) → jf (jp (jp t 43 U 18 (k + 1)) 43 U 18 (k + 2)) c a j = jf t c a j := ⟨jSm.rfl.jp.jp, fun c a j z => by rw [jf_neg (by omega)]; exact jf_neg (by omega)⟩
  have v1 : jf (jp t 43 U 18 (k + 1)) 43 U 18 = k + 1 := jf_pos ⟨rfl, rfl, rfl⟩
  have v2 : jf (jp (jp t 43 U 18 (k + 1)) 43 U 18 (k + 2)) 43 U 18 = k + 2 := jf_pos ⟨rfl, rfl, rfl⟩
  rw [h1.1]
  unfold inOK inV inT
  by_cases c0 : k < n
  rotate_left
  · rw [if_neg c0]
    have : bt g n k = -1 := bt_out (by omega)
    refine ⟨_, _, rfl, fr1, .inl v1, fun z => ?_, fun _ => rfl⟩
    rw [this, if_neg (by omega)] at z; omega
  have hk : av g n k = bt g n k := by unfold av bt; rw [if_pos c0, if_pos c0]
  rw [if_pos c0, hk]
  by_cases c : bt g n k = 92
  · rw [if_pos c, if_pos c, if_pos c, if_pos c, y_av h1 (by omega), Option.bind_some]
    have h2 : tdI (jp (jp t 43 U 18 (k + 1)) 43 U 18 (k + 2)) U g n := h1.kp (yRd.rfl.slt (by omega))
    rw [h2.1]
    by_cases c1 : k + 1 < n
    rotate_left
    · rw [if_neg c1]
      have : bt g n (k + 1) = -1 := bt_out (by omega)
      exact ⟨_, _, rfl, fr2, .inr v2, fun z => by omega, fun _ => rfl⟩
    have hk1 : av g n (k + 1) = bt g n (k + 1) := by unfold av bt; rw [if_pos c1, if_pos c1]
    rw [if_pos c1, hk1]
    by_cases d1 : bt g n (k + 1) = 110
    · rw [if_pos d1]; exact ⟨_, _, rfl, fr2, .inr v2, fun _ => ⟨by rw [if_pos d1], v2⟩, fun z => absurd (.inl d1) z⟩
    rw [if_neg d1]
    by_cases d2 : bt g n (k + 1) = 116
    · rw [if_pos d2]; exact ⟨_, _, rfl, fr2, .inr v2, fun _ => ⟨by rw [if_neg d1, if_pos d2], v2⟩, fun z => by omega⟩
    rw [if_neg d2]
    by_cases d3 : bt g n (k + 1) = 48
    · rw [if_pos d3]; exact ⟨_, _, rfl, fr2, .inr v2, fun _ => ⟨by rw [if_neg d1, if_neg d2, if_pos d3], v2⟩, fun z => by omega⟩
    rw [if_neg d3]
    by_cases d4 : bt g n (k + 1) = 92
    · rw [if_pos d4]; exact ⟨_, _, rfl, fr2, .inr v2, fun _ => ⟨by rw [if_neg d1, if_neg d2, if_neg d3], v2⟩, fun z => by omega⟩
    rw [if_neg d4]
    by_cases d5 : bt g n (k + 1) = 39
    · rw [if_pos d5]; exact ⟨_, _, rfl, fr2, .inr v2, fun _ => ⟨by rw [if_neg d1, if_neg d2, if_neg d3], v2⟩, fun z => by omega⟩
    rw [if_neg d5]
    by_cases d6 : bt g n (k + 1) = 34
    · rw [if_pos d6]; exact ⟨_, _, rfl, fr2, .inr v2, fun _ => ⟨by rw [if_neg d1, if_neg d2, if_neg d3], v2⟩, fun z => by omega⟩
    rw [if_neg d6]; exact ⟨_, _, rfl, fr2, .inr v2, fun z => by omega, fun _ => rfl⟩
  · rw [if_neg c, if_neg c, if_neg c, if_neg c]
    by_cases d1 : bt g n k < 32
    · rw [if_pos d1]; exact ⟨_, _, rfl, fr1, .inl v1, fun z => by omega, fun _ => rfl⟩
    rw [if_neg d1]
    by_cases d2 : bt g n k < 127
    · rw [if_pos d2]
      by_cases d3 : bt g n k = a'
      · rw [if_pos d3]; exact ⟨_, _, rfl, fr1, .inl v1, fun z => absurd d3 z.2.2, fun _ => rfl⟩
      · rw [if_neg d3]; exact ⟨_, _, rfl, fr1, .inl v1, fun _ => ⟨rfl, v1⟩, fun z => absurd ⟨by omega, by omega, d3⟩ z⟩
    · rw [if_neg d2]; exact ⟨_, _, rfl, fr1, .inl v1, fun z => by omega, fun _ => rfl⟩
theorem y_character (h : tdI t U g n) (h17 : jf t 43 U 17 = r) (r0 : 0 ≤ r) (r1 : r < n) : jE (m_X39_character t U) fun q => yRd t q.1 U ∧ tkS q.1 U g n (wdC g n r) := by
  obtain ⟨-, -, hb, n0, n1⟩ := id h
  rw [em_X39_character]; unfold dm_X39_character wdC
  rw [h17, W32_in (by omega) (by omega)]
  obtain ⟨w, z, e1, ⟨e2, e3⟩, e4, e5, e6⟩ := y_inside (a' := 39) (k := r + 1) h (by omega) (by omega)
  rw [e1, Option.bind_some]
  simp only [jls]
  have K : yRd t w U := ⟨e2, fun c a j z z' => e3 c a j (by omega)⟩
  have K2 : yRd t (jp (jp w 43 U 15 2) 43 U 16 z) U := (K.slt (by omega)).slt (by omega)
  have hw := h.kp K2
  have f18 : jf (jp (jp w 43 U 15 2) 43 U 16 z) 43 U 18 = jf w 43 U 18 := by (repeat (first | rw [jf_neg (by omega)] | rw [jf_pos (by omega)] | rw [ou_neg (by omega)] | rw [ou_pos (by omega)]))
  have f17 : jf (jp (jp w 43 U 15 2) 43 U 16 z) 43 U 17 = r := by rw [jf_neg (by omega), jf_neg (by omega), e3 _ _ _ (by omega)]; exact h17
  have e58 : jE (u_X39_character_58 (jp (jp w 43 U 15 2) 43 U 16 z) U r) fun q => yRd t q.1 U ∧ tkS q.1 U g n (6, 4, r, 0) := by
    rw [eu_X39_character_58]; unfold du_X39_character_58
    rw [y_bad, Option.bind_some, eu_X39_character_64]; unfold du_X39_character_64
    simp only [jls]
    rw [jf_neg (by omega), jf_neg (by omega), jf_neg (by omega), jf_pos ⟨rfl, rfl, rfl⟩, if_neg (by decide)]
    refine jS_end ⟨K2.bad.slt (by omega), ?_, ?_, fun _ => ?_, fun z => absurd rfl z, fun z => absurd z (show ¬ ((6 : Int) = 2 ∨ (6 : Int) = 3) by decide), fun z => absurd z (show ¬ (6 : Int) = 5 by decide), fun z => absurd z (show ¬ (6 : Int) = 4 by decide)⟩
    · show _ = (6 : Int)
      (repeat (first | rw [jf_neg (by omega)] | rw [jf_pos (by omega)] | rw [ou_neg (by omega)] | rw [ou_pos (by omega)]))
    · show _ = r
      (repeat (first | rw [jf_neg (by omega)] | rw [jf_pos (by omega)] | rw [ou_neg (by omega)] | rw [ou_pos (by omega)]))
    · show _ = (4 : Int)
      (repeat (first | rw [jf_neg (by omega)] | rw [jf_pos (by omega)] | rw [ou_neg (by omega)] | rw [ou_pos (by omega)]))
  by_cases c : inOK g n (r + 1) 39
  rotate_left
  · rw [e6 c] at e58 ⊢
    rw [if_pos rfl, cif_neg (fun z => c z.1)]; exact e58
  obtain ⟨i1, i2⟩ := e5 c
  have hi := inOK_in hb (by omega) c
  rw [if_neg (show ¬ z = -1 by omega), f18, hw.1, i2]
  by_cases c1 : inT g n (r + 1) < n
  rotate_left
  · rw [if_neg c1, cif_neg (fun z => by have := z.2; rw [bt_out (by omega)] at this; omega)]; exact e58
  have t0 : r + 1 < inT g n (r + 1) := by unfold inT; split <;> omega
  rw [if_pos c1, y_lt hw (by omega) c1]
  by_cases c2 : g (inT g n (r + 1)) = 39
  rotate_left
  · rw [if_neg c2, cif_neg (fun z => c2 (by have := z.2; rw [bt_in c1] at this; exact this))]; exact e58
  rw [if_pos c2, cif_pos ⟨c, by rw [bt_in c1]; exact c2⟩, eu_X39_character_64]; unfold du_X39_character_64
  simp only [jls]
  rw [f18, i2, W32_in (by omega) (by omega), jf_neg (by omega), jf_neg (by omega), jf_pos ⟨rfl, rfl, rfl⟩, if_pos rfl]
  refine jS_end ⟨(K2.slt (by omega)).slt (by omega), ?_, jf_pos ⟨rfl, rfl, rfl⟩, fun z => absurd z (show ¬ (2 : Int) = 6 by decide), fun _ => ?_, fun _ => ?_, fun z => absurd z (show ¬ (2 : Int) = 5 by decide), fun z => absurd z (show ¬ (2 : Int) = 4 by decide)⟩
  · show _ = (2 : Int)
    (repeat (first | rw [jf_neg (by omega)] | rw [jf_pos (by omega)] | rw [ou_neg (by omega)] | rw [ou_pos (by omega)]))
  · show _ = inT g n (r + 1) + 1
    (repeat (first | rw [jf_neg (by omega)] | rw [jf_pos (by omega)] | rw [ou_neg (by omega)] | rw [ou_pos (by omega)]))
  · show _ = inV g n (r + 1)
    rw [jf_neg (by omega), jf_neg (by omega), jf_pos ⟨rfl, rfl, rfl⟩]; exact i1
theorem y_string (h : tdI t U g n) (h17 : jf t 43 U 17 = r) (r0 : 0 ≤ r) (r1 : r < n) : jE (m_X39_stringWord t U) fun q => yRd t q.1 U ∧ tkS q.1 U g n (wdS g n r) := by
  obtain ⟨-, -, hb, n0, n1⟩ := id h
  obtain ⟨m1, m2⟩ := stM_end (r := r) hb r0
  have hq' : ∀ j : Nat, j ≤ stM g n r → stQ g n r j ≤ n := fun j hj => by
    cases j with
    | zero => show r + 1 ≤ n; omega
    | succ j =>
      have lo := stQ_lo (g := g) (n := n) (r := r) j
      have := inOK_in hb (by omega) (m1 j (by omega)).2
      show inT g n (stQ g n r j) ≤ n; omega
  have hm := stQ_lo (g := g) (n := n) (r := r) (stM g n r)
  have hmn := hq' (stM g n r) (Nat.le_refl _)
  rw [em_X39_stringWord]; unfold dm_X39_stringWord wdS
  simp only [jls, jlet]
  rw [h17, W32_in (by omega) (by omega), eu_X39_stringWord_22]; unfold du_X39_stringWord_22
  obtain ⟨w, ew, e1, e2, e3, e4, e5⟩ := jstepS (A := jc3 b_X39_stringWord_22) (t := jp (jp t 43 U 15 4) 43 U 11 0) (fun j w => yRd t w U ∧ jf w 43 U 15 = 4 ∧ jf w 43 U 11 = j ∧ jf w 43 U 17 = r ∧ ∀ i : Nat, (i : Int) < j → jf w 1000 (U + 15) i = inV g n (stQ g n r i)) (fun j => [U, r, stQ g n r j.toNat]) 0 (stM g n r) (by omega) ⟨(yRd.rfl.slt (by omega)).slt (by omega), by (repeat (first | rw [jf_neg (by omega)] | rw [jf_pos (by omega)] | rw [ou_neg (by omega)] | rw [ou_pos (by omega)])), by (repeat (first | rw [jf_neg (by omega)] | rw [jf_pos (by omega)] | rw [ou_neg (by omega)] | rw [ou_pos (by omega)])), by rw [jf_neg (by omega), jf_neg (by omega)]; exact h17, fun i hi => by omega⟩ (fun j w j0 j1 ⟨e1, e2, e3, e4, e5⟩ => by
    show ∃ u', b_X39_stringWord_22 w U r (stQ g n r j.toNat) = _ ∧ _
    unfold b_X39_stringWord_22
    have hw := h.kp e1
    have lo := stQ_lo (g := g) (n := n) (r := r) j.toNat
    have hi := hq' j.toNat (by omega)
    have gg := m1 j.toNat (by omega)
    rw [if_pos e2, y_av hw (by omega), Option.bind_some, if_neg (fun z => gg.1 ((av_eq (by decide) (by decide)).mp z))]
    obtain ⟨w', z, i1, ⟨i2, i3⟩, i4, i5, i6⟩ := y_inside (a' := 34) (k := stQ g n r j.toNat) hw (by omega) (by omega)
    obtain ⟨z1, z2⟩ := i5 gg.2
    have hin := inOK_in hb (by omega) gg.2
    rw [i1, Option.bind_some]
    dsimp only
    rw [if_neg (show ¬ z = -1 by omega), eu_X39_stringWord_59]; unfold du_X39_stringWord_59
    have K : yRd t w' U := e1.trans ⟨i2, fun c a j z z' => i3 c a j (by omega)⟩
    have f11 : jf w' 43 U 11 = j := by rw [i3 _ _ _ (by omega)]; exact e3
    rw [f11, jst_in j0 (by omega), Option.bind_some]
    simp only [jls]
    rw [jf_neg (by omega), f11, W32_in (by omega) (by omega), jf_neg (by omega), jf_neg (by omega), z2]
    refine ⟨_, by rw [show (j + 1).toNat = j.toNat + 1 by omega]; rfl, K.sp.slt (by omega), ?_, by (repeat (first | rw [jf_neg (by omega)] | rw [jf_pos (by omega)] | rw [ou_neg (by omega)] | rw [ou_pos (by omega)])), ?_, fun i hi' => ?_⟩
    · rw [jf_neg (by omega), jf_neg (by omega), i3 _ _ _ (by omega)]; exact e2
    · rw [jf_neg (by omega), jf_neg (by omega), i3 _ _ _ (by omega)]; exact e4
    · rw [jf_neg (by omega)]
      by_cases ci : (i : Int) = j
      · rw [jf_pos ⟨rfl, rfl, ci⟩, z1, show j.toNat = i by omega]
      · rw [jf_neg (by omega), i3 _ _ _ (by omega)]; exact e5 i (by omega))
  rw [show (stM g n r : Int).toNat = stM g n r by omega] at ew
  have ew' : jlpW (jc3 b_X39_stringWord_22) [U, r, r + 1] (jp (jp t 43 U 15 4) 43 U 11 0) = jlpW (jc3 b_X39_stringWord_22) [U, r, stQ g n r (stM g n r)] w := ew
  rw [ew']
  have hw := h.kp e1
  have e87 : ∀ w k, 0 ≤ k → k ≤ 2000 → u_X39_stringWord_87 w U k = some (jp w 43 U 18 (k + 1), 0) := fun w k k0 k1 => by
    rw [eu_X39_stringWord_87]; unfold du_X39_stringWord_87
    simp only [jls]
    rw [W32_in (by omega) (by omega)]
  by_cases c : bt g n (stQ g n r (stM g n r)) = 34
  · rw [if_pos c, jlpW_r (r := u_X39_stringWord_87 w U (stQ g n r (stM g n r))) (by
      show b_X39_stringWord_22 w U r (stQ g n r (stM g n r)) = _
      unfold b_X39_stringWord_22
      rw [if_pos e2, y_av hw (by omega), Option.bind_some, if_pos ((av_eq (by decide) (by decide)).mpr c)]), e87 _ _ (by omega) (by omega)]
    refine (jS_end ⟨e1.slt (by omega), ?_, ?_, fun z => absurd z (show ¬ (4 : Int) = 6 by decide), fun _ => jf_pos ⟨rfl, rfl, rfl⟩, fun z => absurd z (show ¬ ((4 : Int) = 2 ∨ (4 : Int) = 3) by decide), fun z => absurd z (show ¬ (4 : Int) = 5 by decide), fun _ => ⟨?_, fun i hi => ?_⟩⟩)
    · rw [jf_neg (by omega)]; exact e2
    · rw [jf_neg (by omega)]; exact e4
    · show _ = ((stM g n r : Nat) : Int)
      rw [jf_neg (by omega)]; exact e3
    · rw [jf_neg (by omega)]; exact e5 i (by have hi' : i < stM g n r := hi; omega)
  rw [if_neg c]
  obtain ⟨w', z, i1, ⟨i2, i3⟩, i4, i5, i6⟩ := y_inside (a' := 34) (k := stQ g n r (stM g n r)) hw (by omega) (by omega)
  have z1 := i6 fun z => m2 ⟨c, z⟩
  have K : yRd t w' U := e1.trans ⟨i2, fun c a j z z' => i3 c a j (by omega)⟩
  have f11 : jf w' 43 U 11 = stM g n r := by rw [i3 _ _ _ (by omega)]; exact e3
  have hK := (K.bad (f := 4) (p := r)).sp (k := ((stM g n r : Nat) : Int)) (v := z)
  have hK2 := hK.slt (k := 11) (v := (stM g n r : Int) + 1) (by omega)
  rw [jlpW_l (s' := jp (jp (jp (jp (jp w' 43 U 15 6) 43 U 16 4) 43 U 17 r) 1000 (U + 15) (stM g n r) z) 43 U 11 (stM g n r + 1)) (vs' := [U, r, jf w' 43 U 18]) (by
    show b_X39_stringWord_22 w U r (stQ g n r (stM g n r)) = _
    unfold b_X39_stringWord_22
    rw [if_pos e2, y_av hw (by omega), Option.bind_some, if_neg (fun z => c ((av_eq (by decide) (by decide)).mp z)), i1, Option.bind_some]
    dsimp only
    rw [if_pos z1, y_bad, Option.bind_some, eu_X39_stringWord_59]; unfold du_X39_stringWord_59
    rw [show jf (jp (jp (jp w' 43 U 15 6) 43 U 16 4) 43 U 17 r) 43 U 11 = stM g n r by rw [jf_neg (by omega), jf_neg (by omega), jf_neg (by omega)]; exact f11, jst_in (by omega) (by omega), Option.bind_some]
    simp only [jls]
    rw [show jf (jp (jp (jp (jp w' 43 U 15 6) 43 U 16 4) 43 U 17 r) 1000 (U + 15) (stM g n r) z) 43 U 11 = stM g n r by rw [jf_neg (by omega), jf_neg (by omega), jf_neg (by omega), jf_neg (by omega)]; exact f11, W32_in (by omega) (by omega)]
    rw [show jf (jp (jp (jp (jp (jp w' 43 U 15 6) 43 U 16 4) 43 U 17 r) 1000 (U + 15) (stM g n r) z) 43 U 11 (stM g n r + 1)) 43 U 18 = jf w' 43 U 18 by (repeat (first | rw [jf_neg (by omega)] | rw [jf_pos (by omega)] | rw [ou_neg (by omega)] | rw [ou_pos (by omega)]))])]
  rw [jlpW_r (r := some (jp (jp (jp (jp (jp (jp w' 43 U 15 6) 43 U 16 4) 43 U 17 r) 1000 (U + 15) (stM g n r) z) 43 U 11 (stM g n r + 1)) 43 U 18 (jf w' 43 U 18 + 1), 0)) (by
    show b_X39_stringWord_22 _ U r (jf w' 43 U 18) = _
    unfold b_X39_stringWord_22
    rw [if_neg (by rw [jf_neg (by omega), jf_neg (by omega), jf_neg (by omega), jf_neg (by omega), jf_pos ⟨rfl, rfl, rfl⟩]; decide), e87 _ _ (by omega) (by omega)])]
  refine jS_end ⟨hK2.slt (by omega), ?_, ?_, fun _ => ?_, fun z => absurd rfl z, fun z => absurd z (show ¬ ((6 : Int) = 2 ∨ (6 : Int) = 3) by decide), fun z => absurd z (show ¬ (6 : Int) = 5 by decide), fun z => absurd z (show ¬ (6 : Int) = 4 by decide)⟩
  · show _ = (6 : Int)
    (repeat (first | rw [jf_neg (by omega)] | rw [jf_pos (by omega)] | rw [ou_neg (by omega)] | rw [ou_pos (by omega)]))
  · show _ = r
    (repeat (first | rw [jf_neg (by omega)] | rw [jf_pos (by omega)] | rw [ou_neg (by omega)] | rw [ou_pos (by omega)]))
  · show _ = (4 : Int)
    (repeat (first | rw [jf_neg (by omega)] | rw [jf_pos (by omega)] | rw [ou_neg (by omega)] | rw [ou_pos (by omega)]))
end jTlex3
