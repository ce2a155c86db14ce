/-! words: where they lie -/
section jWdat
variable {g : Int → Int} {n p q r k a c f e : Int} {W : wR4}
/-- what a word that begins at r obeys -/
def wOk (n r : Int) (W : wR4) : Prop := W.2.2.1 = r ∧ (W.1 = 6 → 1 ≤ W.2.1 ∧ W.2.1 ≤ 4) ∧ (¬ W.1 = 6 → r < W.2.2.2 ∧ W.2.2.2 ≤ n ∧ 1 ≤ W.1 ∧ W.1 ≤ 7) ∧ (W.1 = 1 ∨ W.1 = 7 → W.2.2.2 - r ≤ 16) ∧ jin W.2.1 ∧ (W.1 = 5 → 0 ≤ W.2.1)
theorem wOk.bad (h : 1 ≤ f ∧ f ≤ 4) : wOk n r (6, f, r, 0) := ⟨rfl, fun _ => h, fun z => absurd rfl z, fun z => absurd z (show ¬ ((6 : Int) = 1 ∨ (6 : Int) = 7) by decide), by show jin f; unfold jin; omega, fun z => absurd z (show ¬ (6 : Int) = 5 by decide)⟩
theorem wdG_ok (f0 : r ≤ f) (f1 : f ≤ n) (hb : byG g n) (h : ¬ hxO (-1) < e) : wOk n r (wdG g n r f e) := by
  obtain ⟨⟨s1, s2, s3⟩, s4⟩ := up_to (g := g) (n := n) (P := fun c => hxO c < e) h f1
  unfold wdG
  generalize up g n (fun c => hxO c < e) f = q1 at *
  split
  · exact wOk.bad (by omega)
  · rename_i z
    exact ⟨rfl, fun z => absurd z (show ¬ (2 : Int) = 6 by decide), fun _ => ⟨by show r < q1; omega, s4, by show (1 : Int) ≤ 2; decide, by show (2 : Int) ≤ 7; decide⟩, fun z => absurd z (show ¬ ((2 : Int) = 1 ∨ (2 : Int) = 7) by decide), W32_lo _, fun z => absurd z (show ¬ (2 : Int) = 5 by decide)⟩
theorem wd1_at (hb : byG g n) (r0 : 0 ≤ r) (r1 : r ≤ n) : wd1 g n r = (0, 0, r, r) ∧ (bt g n r = 10 ∨ bt g n r = -1) ∨ r < n ∧ wOk n r (wd1 g n r) := by
  unfold wd1
  by_cases c0 : bt g n r = 10 ∨ bt g n r = -1
  · rw [if_pos c0]; exact .inl ⟨rfl, c0⟩
  rw [if_neg c0]
  have rn : r < n := bt_ne hb r0 (fun z => c0 (.inr z))
  refine .inr ⟨rn, ?_⟩
  by_cases c1 : isBg (bt g n r)
  · rw [cif_pos c1]
    obtain ⟨⟨s1, s2, s3⟩, s4⟩ := up_to (g := g) (n := n) (P := isIn) (p := r) (by unfold isIn isBg isDg; omega) r1
    unfold wdI
    generalize up g n isIn r = q1 at *
    have sq : r < q1 := by
      by_cases z : q1 = r
      · rw [z] at s3; exact absurd (.inl c1) s3
      · omega
    split
    · exact wOk.bad (by omega)
    · rename_i z
      split
      · exact ⟨rfl, fun z => absurd z (show ¬ (7 : Int) = 6 by decide), fun _ => ⟨sq, s4, by show (1 : Int) ≤ 7; decide, by show (7 : Int) ≤ 7; decide⟩, fun _ => by show q1 - r ≤ 16; omega, by show jin 0; unfold jin; omega, fun z => absurd z (show ¬ (7 : Int) = 5 by decide)⟩
      · exact ⟨rfl, fun z => absurd z (show ¬ (1 : Int) = 6 by decide), fun _ => ⟨sq, s4, by show (1 : Int) ≤ 1; decide, by show (1 : Int) ≤ 7; decide⟩, fun _ => by show q1 - r ≤ 16; omega, by show jin 0; unfold jin; omega, fun z => absurd z (show ¬ (1 : Int) = 5 by decide)⟩
  rw [cif_neg c1]
  by_cases c2 : isDg (bt g n r)
  · rw [cif_pos c2]
    unfold isDg at c2
    have b2 := (bt_lo (k := r + 1) hb (by omega)).2.2
    have b3 := (bt_lo (k := r + 2) hb (by omega)).2.2
    have hx : ∀ e, e ≤ 16 → ¬ hxO (-1) < e := fun e he => by have : hxO (-1) = 16 := rfl; omega
    unfold wdN
    split
    · exact wdG_ok (by omega) (by omega) hb (hx 16 (by omega))
    split
    · exact wdG_ok (by omega) (by omega) hb (hx 2 (by omega))
    by_cases c3 : (bt g n (r + 1) = 98 ∨ bt g n (r + 1) = 102) ∧ ¬ isIn (bt g n (r + 2))
    · rw [cif_pos c3]
      refine ⟨rfl, fun z => absurd z (show ¬ (3 : Int) = 6 by decide), fun _ => ⟨by show r < r + 2; omega, by show r + 2 ≤ n; omega, by show (1 : Int) ≤ 3; decide, by show (3 : Int) ≤ 7; decide⟩, fun z => absurd z (show ¬ ((3 : Int) = 1 ∨ (3 : Int) = 7) by decide), ?_, fun z => absurd z (show ¬ (3 : Int) = 5 by decide)⟩
      show jin (2 * (bt g n r - 48) + (if bt g n (r + 1) = 102 then 1 else 0))
      unfold jin; split <;> omega
    · rw [cif_neg c3]; exact wdG_ok (by omega) (by omega) hb (hx 10 (by omega))
  rw [cif_neg c2]
  split
  · unfold wdC
    by_cases c3 : inOK g n (r + 1) 39 ∧ bt g n (inT g n (r + 1)) = 39
    · have hi := inOK_in hb (by omega) c3.1
      have h39 := bt_ne (k := inT g n (r + 1)) hb (by unfold inT; split <;> omega) (by omega)
      have t0 : r + 1 < inT g n (r + 1) := by unfold inT; split <;> omega
      rw [cif_pos c3]
      exact ⟨rfl, fun z => absurd z (show ¬ (2 : Int) = 6 by decide), fun _ => ⟨by show r < inT g n (r + 1) + 1; omega, by show inT g n (r + 1) + 1 ≤ n; omega, by show (1 : Int) ≤ 2; decide, by show (2 : Int) ≤ 7; decide⟩, fun z => absurd z (show ¬ ((2 : Int) = 1 ∨ (2 : Int) = 7) by decide), by show jin (inV g n (r + 1)); unfold jin; omega, fun z => absurd z (show ¬ (2 : Int) = 5 by decide)⟩
    · rw [cif_neg c3]; exact wOk.bad (by omega)
  split
  · unfold wdS
    split
    · rename_i z
      have lo := stQ_lo (g := g) (n := n) (r := r) (stM g n r)
      have h34 := bt_ne (k := stQ g n r (stM g n r)) hb (by omega) (by omega)
      exact ⟨rfl, fun z => absurd z (show ¬ (4 : Int) = 6 by decide), fun _ => ⟨by show r < stQ g n r (stM g n r) + 1; omega, by show stQ g n r (stM g n r) + 1 ≤ n; omega, by show (1 : Int) ≤ 4; decide, by show (4 : Int) ≤ 7; decide⟩, fun z => absurd z (show ¬ ((4 : Int) = 1 ∨ (4 : Int) = 7) by decide), by show jin 0; unfold jin; omega, fun z => absurd z (show ¬ (4 : Int) = 5 by decide)⟩
    · exact wOk.bad (by omega)
  · unfold wdY
    split
    · rename_i z
      have h2 := bt_ne (k := r + 1) hb (by omega) (by omega)
      refine ⟨rfl, fun z => absurd z (show ¬ (5 : Int) = 6 by decide), fun _ => ⟨by show r < r + 2; omega, by show r + 2 ≤ n; omega, by show (1 : Int) ≤ 5; decide, by show (5 : Int) ≤ 7; decide⟩, fun z => absurd z (show ¬ ((5 : Int) = 1 ∨ (5 : Int) = 7) by decide), ?_, fun _ => ?_⟩
      · show jin (if bt g n r = 60 then 256 else 257)
        unfold jin; split <;> omega
      · show 0 ≤ (if bt g n r = 60 then (256 : Int) else 257)
        split <;> omega
    · by_cases c3 : sgOK (bt g n r)
      · rw [cif_pos c3]
        unfold sgOK at c3
        exact ⟨rfl, fun z => absurd z (show ¬ (5 : Int) = 6 by decide), fun _ => ⟨by show r < r + 1; omega, by show r + 1 ≤ n; omega, by show (1 : Int) ≤ 5; decide, by show (5 : Int) ≤ 7; decide⟩, fun z => absurd z (show ¬ ((5 : Int) = 1 ∨ (5 : Int) = 7) by decide), by show jin (bt g n r); unfold jin; omega, fun _ => by show 0 ≤ bt g n r; omega⟩
      · rw [cif_neg c3]; exact wOk.bad (by omega)
/-- the word behind a place -/
theorem wd_at (hb : byG g n) (p0 : 0 ≤ p) (p1 : p ≤ n) : ∃ r, p ≤ r ∧ r ≤ n ∧ (wd g n p).2.2.1 = r ∧ ((wd g n p = (0, 0, r, r) ∧ (bt g n r = 10 ∨ bt g n r = -1)) ∨ r < n ∧ wOk n r (wd g n p)) := by
  obtain ⟨⟨s1, s2, s3⟩, s4⟩ := up_to (g := g) (n := n) (P := spP) (by unfold spP; omega) p1
  have fin : ∀ r, p ≤ r → r ≤ n → ∃ r', p ≤ r' ∧ r' ≤ n ∧ (wd1 g n r).2.2.1 = r' ∧ ((wd1 g n r = (0, 0, r', r') ∧ (bt g n r' = 10 ∨ bt g n r' = -1)) ∨ r' < n ∧ wOk n r' (wd1 g n r)) := fun r r0 r1 => by
    rcases wd1_at hb (by omega) r1 with ⟨z1, z2⟩ | ⟨z1, z2⟩
    · exact ⟨r, r0, r1, by rw [z1], .inl ⟨z1, z2⟩⟩
    · exact ⟨r, r0, r1, z2.1, .inr ⟨z1, z2⟩⟩
  unfold wd
  generalize up g n spP p = q0 at *
  by_cases c : bt g n q0 = 35
  · rw [if_pos c]
    obtain ⟨⟨d1, d2, d3⟩, d4⟩ := up_to (g := g) (n := n) (P := cmP) (p := q0) (by unfold cmP; omega) s4
    generalize up g n cmP q0 = q1 at *
    by_cases c2 : bt g n q1 = 10 ∨ bt g n q1 = -1
    · rw [if_pos c2]; exact fin q1 (by omega) d4
    · rw [if_neg c2]
      exact ⟨q1, by omega, d4, rfl, .inr ⟨bt_ne hb (by omega) (fun z => c2 (.inr z)), wOk.bad (by omega)⟩⟩
  · rw [if_neg c]; exact fin q0 s1 s4
/-- in short -/
theorem wd_in (hb : byG g n) (p0 : 0 ≤ p) (p1 : p ≤ n) : p ≤ (wd g n p).2.2.1 ∧ (wd g n p).2.2.1 ≤ n ∧ ((wd g n p).1 = 6 → 1 ≤ (wd g n p).2.1 ∧ (wd g n p).2.1 ≤ 4) ∧ (¬ (wd g n p).1 = 6 → (wd g n p).2.2.1 ≤ (wd g n p).2.2.2 ∧ (wd g n p).2.2.2 ≤ n ∧ 0 ≤ (wd g n p).1 ∧ (wd g n p).1 ≤ 7 ∧ ((wd g n p).1 = 0 ∨ (wd g n p).2.2.1 < (wd g n p).2.2.2)) ∧ ((wd g n p).1 = 1 ∨ (wd g n p).1 = 7 → (wd g n p).2.2.2 - (wd g n p).2.2.1 ≤ 16) ∧ jin (wd g n p).2.1 ∧ ((wd g n p).1 = 5 → 0 ≤ (wd g n p).2.1) := by
  obtain ⟨r, r0, r1, e, h⟩ := wd_at hb p0 p1
  rcases h with ⟨h, -⟩ | ⟨h1, h2, h3, h4, h5, h6, h7⟩
  · rw [h]
    exact ⟨r0, r1, fun z => absurd z (show ¬ (0 : Int) = 6 by decide), fun _ => ⟨Int.le_refl _, r1, by show (0 : Int) ≤ 0; decide, by show (0 : Int) ≤ 7; decide, .inl rfl⟩, fun z => absurd z (show ¬ ((0 : Int) = 1 ∨ (0 : Int) = 7) by decide), by show jin 0; unfold jin; omega, fun z => absurd z (show ¬ (0 : Int) = 5 by decide)⟩
  · rw [e]
    exact ⟨r0, r1, h3, fun z => by have := h4 z; omega, h5, h6, h7⟩
end jWdat
