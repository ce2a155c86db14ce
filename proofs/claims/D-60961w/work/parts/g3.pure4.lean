/-! faults have numbers; lines go on (pure) -/
section jPure4
variable {g : Int → Int} {n p c k o r d b ln : Int} {q : qS} {L : pI} {st : pS} {G : gP}
def flOK {α : Type} (pr : fE ⊕ α) : Prop := match pr with
  | .inl e => 1 ≤ e.1
  | .inr _ => True
theorem flOK.own {α : Type} (hb : byG g n) (p0 : 0 ≤ p) (p1 : p ≤ n) (h : (wd g n p).1 = 6) : flOK (.inl ((wd g n p).2.1, (wd g n p).2.2.1) : fE ⊕ α) := ((wd_in hb p0 p1).2.2.1 h).1
theorem flOK.num {α : Type} {f : Int} (h : 1 ≤ f) : flOK (.inl (f, p) : fE ⊕ α) := h
theorem mor_fl (hb : byG g n) (hG : ∀ (st : pS) d l z, 0 ≤ st.1 → st.1 ≤ n → G.1 st d l = .inr z → st.1 ≤ z.1.1 ∧ z.1.1 ≤ n) (h : ∀ st j, b < j → j ≤ 7 → 0 ≤ st.1 → st.1 ≤ n → flOK (G.1 st d j)) : ∀ (m : Nat) (L : pI) (st : pS), (n + 1 - st.1).toNat ≤ m → 0 ≤ st.1 → st.1 ≤ n → flOK (morN g n G d b m L st)
  | 0, L, st, hm, p0, p1 => by omega
  | m + 1, L, st, hm, p0, p1 => by
    have hw := wd_in hb p0 p1
    unfold morN
    by_cases c6 : (wd g n st.1).1 = 6
    · rw [if_pos c6]; exact flOK.own hb p0 p1 c6
    rw [if_neg c6]
    by_cases c1 : opO (wd g n st.1) = -1 ∨ bnO (opO (wd g n st.1)) < b
    · rw [if_pos c1]; trivial
    rw [if_neg c1]
    have h7 := hw.2.2.2.1 c6
    have bl := bnO_lo (o := opO (wd g n st.1))
    have ol := opO_lo (W := wd g n st.1) (fun z => c1 (.inl z))
    split
    · exact flOK.num (by decide)
    have q0 : 0 ≤ (wd g n st.1).2.2.2 := by omega
    have h1 := h ((wd g n st.1).2.2.2, st.2.1, st.2.2.1 + 1, st.2.2.2 + 1) (bnO (opO (wd g n st.1)) + 1) (by omega) (by omega) q0 h7.2.1
    cases hg : G.1 ((wd g n st.1).2.2.2, st.2.1, st.2.2.1 + 1, st.2.2.2 + 1) d (bnO (opO (wd g n st.1)) + 1) with
    | inl e => rw [hg] at h1; exact h1
    | inr z =>
      have hz := hG _ _ _ z q0 h7.2.1 hg
      have hz1 : (wd g n st.1).2.2.2 ≤ z.1.1 := hz.1
      exact mor_fl hb hG h m _ z.1 (by omega) (by omega) hz.2
theorem gp_fl (hb : byG g n) : ∀ (k : Nat) (d : Int), 1 ≤ d → d ≤ 21 →
    (∀ l, 1 ≤ l → l ≤ 7 → 2 + 15 * (21 - d) + 2 * (7 - l) ≤ k → ∀ st : pS, 0 ≤ st.1 → st.1 ≤ n → flOK ((gp g n k).1 st d l)) ∧
    (∀ l, 1 ≤ l → l ≤ 7 → 1 + 15 * (21 - d) + 2 * (7 - l) ≤ k → ∀ L (st : pS), 0 ≤ st.1 → st.1 ≤ n → flOK ((gp g n k).2.1 L st d l)) ∧
    (1 + 15 * (21 - d) ≤ k → ∀ st : pS, 0 ≤ st.1 → st.1 ≤ n → flOK ((gp g n k).2.2.1 st d)) ∧
    (15 + 15 * (21 - d) ≤ k → ∀ st : pS, 0 ≤ st.1 → st.1 ≤ n → flOK ((gp g n k).2.2.2 st d))
  | 0, d, d1, d2 => ⟨fun l _ _ h => absurd h (by omega), fun l _ _ h => absurd h (by omega), fun h => absurd h (by omega), fun h => absurd h (by omega)⟩
  | k + 1, d, d1, d2 => by
    have ih := gp_fl hb k d d1 d2
    have ok := gp_ok hb k
    refine ⟨fun l l1 l7 h st p0 p1 => ?_, fun l l1 l7 h L st p0 p1 => ?_, fun h st p0 p1 => ?_, fun h st p0 p1 => ?_⟩
    · show flOK (sumF (gp g n k) st d l)
      unfold sumF
      have h1 := ih.2.2.1 (by omega) st p0 p1
      have h2 := (ok st p0 p1).2.2.1 d
      cases hg : (gp g n k).2.2.1 st d with
      | inl e => rw [hg] at h1; exact h1
      | inr z =>
        rw [hg] at h2
        exact ih.2.1 l l1 l7 (by omega) z.2 z.1 (by have := h2.1; omega) h2.2.1
    · exact mor_fl hb (fun st d l z q0 q1 hz => by
        have := (ok st q0 q1).1 d l
        rw [hz] at this; exact ⟨this.1, this.2.1⟩) (fun st j h1 h2 q0 q1 => ih.1 j (by omega) h2 (by omega) st q0 q1) _ L st (Nat.le_refl _) p0 p1
    · show flOK (sglF g n (gp g n k) st d)
      rw [sglF_eq]
      have hw := wd_in hb p0 p1
      by_cases c6 : (wd g n st.1).1 = 6
      · rw [if_pos c6]; exact flOK.own hb p0 p1 c6
      rw [if_neg c6]
      have h7 := hw.2.2.2.1 c6
      split
      · exact flOK.num (by decide)
      split
      · exact flOK.num (by decide)
      unfold sgR
      split
      · exact flOK.num (by decide)
      rename_i c20
      have ih' := gp_fl hb k (d + 1) (by omega) (by omega)
      have q0 : 0 ≤ (wd g n st.1).2.2.2 := by omega
      split
      · exact ih'.2.2.2 (by omega) ((wd g n st.1).2.2.2, st.2) q0 h7.2.1
      split
      · exact flOK.num (by decide)
      split
      · have h1 := ih'.2.2.1 (by omega) ((wd g n st.1).2.2.2, st.2.1, st.2.2.1 + 1, st.2.2.2 + 1) q0 h7.2.1
        cases hg : (gp g n k).2.2.1 ((wd g n st.1).2.2.2, st.2.1, st.2.2.1 + 1, st.2.2.2 + 1) (d + 1) with
        | inl e => rw [hg] at h1; exact h1
        | inr z => trivial
      split
      · split
        · exact flOK.num (by decide)
        · trivial
      · trivial
    · show flOK (inBrF g n (gp g n k) st d)
      unfold inBrF
      have h1 := ih.1 1 (by omega) (by omega) (by omega) st p0 p1
      have h2 := (ok st p0 p1).1 d 1
      cases hg : (gp g n k).1 st d 1 with
      | inl e => rw [hg] at h1; exact h1
      | inr z =>
        rw [hg] at h2
        show flOK (if (wd g n z.1.1).1 = 6 then .inl ((wd g n z.1.1).2.1, (wd g n z.1.1).2.2.1) else if (wd g n z.1.1).1 = 5 ∧ (wd g n z.1.1).2.1 = 41 then .inr (((wd g n z.1.1).2.2.2, z.1.2), z.2) else .inl (5, (wd g n z.1.1).2.2.1) : pR)
        by_cases c6 : (wd g n z.1.1).1 = 6
        · rw [if_pos c6]; exact flOK.own hb (by have := h2.1; omega) h2.2.1 c6
        rw [if_neg c6]
        split
        · trivial
        · exact flOK.num (by decide)
theorem pvNeed_fl (hb : byG g n) (p0 : 0 ≤ p) (p1 : p ≤ n) : flOK (pvNeed g n p c) := by
  unfold pvNeed
  by_cases c6 : (wd g n p).1 = 6
  · rw [if_pos c6]; exact flOK.own hb p0 p1 c6
  rw [if_neg c6]
  split
  · trivial
  · exact flOK.num (by decide)
theorem pvBased_fl (hb : byG g n) (p0 : 0 ≤ p) (p1 : p ≤ n) : flOK (pvBased g n p) := by
  have hw := wd_in hb p0 p1
  unfold pvBased
  by_cases c6 : (wd g n p).1 = 6
  · rw [if_pos c6]; exact flOK.own hb p0 p1 c6
  rw [if_neg c6]
  have h7 := hw.2.2.2.1 c6
  split
  · exact flOK.num (by decide)
  have h1 := pvNeed_fl (c := 41) hb (p := (wd g n p).2.2.2) (by omega) h7.2.1
  cases hg : pvNeed g n (wd g n p).2.2.2 41 with
  | inl e => rw [hg] at h1; exact h1
  | inr z => trivial
theorem pvSum_fl (hb : byG g n) (p0 : 0 ≤ q.1) (p1 : q.1 ≤ n) : flOK (pvSum g n q) := by
  have h1 := (gp_fl hb 450 1 (by decide) (by decide)).1 1 (by decide) (by decide) (by decide) (q.1, q.2.1, q.2.2, 0) p0 p1
  unfold pvSum
  cases hg : (gp g n 450).1 (q.1, q.2.1, q.2.2, 0) 1 1 with
  | inl e => rw [hg] at h1; exact h1
  | inr z => trivial
theorem pvTail_fl (hb : byG g n) (p0 : 0 ≤ q.1) (p1 : q.1 ≤ n) : flOK (pvTail g n q L c) := by
  have hw := wd_in hb p0 p1
  unfold pvTail
  by_cases c6 : (wd g n q.1).1 = 6
  · rw [if_pos c6]; exact flOK.own hb p0 p1 c6
  rw [if_neg c6]
  have h7 := hw.2.2.2.1 c6
  split
  · have h1 := pvBased_fl hb (p := (wd g n q.1).2.2.2) (by omega) h7.2.1
    cases hg : pvBased g n (wd g n q.1).2.2.2 with
    | inl e => rw [hg] at h1; exact h1
    | inr z => trivial
  · trivial
theorem pvMarked_fl (hb : byG g n) (p0 : 0 ≤ q.1) (p1 : q.1 ≤ n) : flOK (pvMarked g n q) := by
  have hw := wd_in hb p0 p1
  unfold pvMarked
  by_cases c6 : (wd g n q.1).1 = 6
  · rw [if_pos c6]; exact flOK.own hb p0 p1 c6
  rw [if_neg c6]
  have h7 := hw.2.2.2.1 c6
  split
  · exact flOK.num (by decide)
  split
  · exact flOK.num (by decide)
  have h1 := pvNeed_fl (c := 40) hb (p := (wd g n q.1).2.2.2) (by omega) h7.2.1
  cases hg : pvNeed g n (wd g n q.1).2.2.2 40 with
  | inl e => rw [hg] at h1; exact h1
  | inr p1' =>
    have n1 := pvNeed_ok hb (by omega) h7.2.1 hg
    have h2 := pvSum_fl (q := (p1', q.2)) hb (by show 0 ≤ p1'; omega) n1.2
    show flOK (match pvSum g n (p1', q.2) with
      | .inl e => .inl e
      | .inr z => match pvNeed g n z.1.1 41 with
        | .inl e => .inl e
        | .inr p2 => .inr ((p2, z.1.2), z.2, mkO (nmO g (wd g n q.1).2.2.1 (wd g n q.1).2.2.2)) : fE ⊕ (qS × pI × Int))
    cases hS : pvSum g n (p1', q.2) with
    | inl e => rw [hS] at h2; exact h2
    | inr z =>
      have n2 := pvSum_ok (q := (p1', q.2)) hb (by show 0 ≤ p1'; omega) n1.2 hS
      have n2a : p1' ≤ z.1.1 := n2.1
      have h3 := pvNeed_fl (c := 41) hb (p := z.1.1) (by omega) n2.2.1
      show flOK (match pvNeed g n z.1.1 41 with
        | .inl e => .inl e
        | .inr p2 => .inr ((p2, z.1.2), z.2, mkO (nmO g (wd g n q.1).2.2.1 (wd g n q.1).2.2.2)) : fE ⊕ (qS × pI × Int))
      cases hN : pvNeed g n z.1.1 41 with
      | inl e => rw [hN] at h3; exact h3
      | inr p2 => trivial
theorem pvVal_fl (hb : byG g n) (p0 : 0 ≤ q.1) (p1 : q.1 ≤ n) (c6 : ¬ (wd g n q.1).1 = 6) : flOK (pvVal g n q) := by
  have hw := wd_in hb p0 p1
  have h7 := hw.2.2.2.1 c6
  unfold pvVal
  split
  · have h1 := pvMarked_fl (q := ((wd g n q.1).2.2.2, q.2)) hb (by show 0 ≤ (wd g n q.1).2.2.2; omega) h7.2.1
    cases hg : pvMarked g n ((wd g n q.1).2.2.2, q.2) with
    | inl e => rw [hg] at h1; exact h1
    | inr z =>
      have n1 := pvMarked_ok (q := ((wd g n q.1).2.2.2, q.2)) hb (by show 0 ≤ (wd g n q.1).2.2.2; omega) h7.2.1 hg
      have n1a : (wd g n q.1).2.2.2 ≤ z.1.1 := n1.1
      exact pvTail_fl hb (by omega) n1.2.1
  split
  · split
    · exact flOK.num (by decide)
    have h1 := pvBased_fl hb (p := (wd g n q.1).2.2.2) (by omega) h7.2.1
    cases hg : pvBased g n (wd g n q.1).2.2.2 with
    | inl e => rw [hg] at h1; exact h1
    | inr z => trivial
  · have h1 := pvSum_fl (q := q) hb p0 p1
    cases hg : pvSum g n q with
    | inl e => rw [hg] at h1; exact h1
    | inr z =>
      have n1 := pvSum_ok hb p0 p1 hg
      exact pvTail_fl hb (by omega) n1.2.1
theorem pvOp_fl (hb : byG g n) (p0 : 0 ≤ q.1) (p1 : q.1 ≤ n) : flOK (pvOp g n q k o) := by
  unfold pvOp
  by_cases c6 : (wd g n q.1).1 = 6
  · rw [if_pos c6]; exact flOK.own hb p0 p1 c6
  rw [if_neg c6]
  by_cases cf : isFst (wd g n q.1)
  · rw [cif_neg (fun z => z cf)]
    split
    · exact flOK.num (by decide)
    split
    · trivial
    split
    · trivial
    have h1 := pvVal_fl hb p0 p1 c6
    cases hg : pvVal g n q with
    | inl e => rw [hg] at h1; exact h1
    | inr z => trivial
  · rw [cif_pos cf]; exact flOK.num (by decide)
theorem pvOps_fl (hb : byG g n) : ∀ (m : Nat) (q : qS) (I : pI) (OL : List pvO) (s : pvS), (n + 1 - q.1).toNat ≤ m → 0 ≤ q.1 → q.1 ≤ n → q.2.2 ≤ 2000 → flOK (pvOps g n m q I OL s) ∧ ∀ z, pvOps g n m q I OL s = .inr z → q.1 ≤ z.1.1 ∧ z.1.1 ≤ n ∧ z.1.2.2 ≤ 2000
  | 0, q, I, OL, s, hm, p0, p1, _ => by omega
  | m + 1, q, I, OL, s, hm, p0, p1, h2 => by
    unfold pvOps
    have h1 := pvOp_fl (k := I.length) (o := OL.length) hb p0 p1
    cases hg : pvOp g n q I.length OL.length with
    | inl e => rw [hg] at h1; exact ⟨h1, fun z hz => by cases hz⟩
    | inr y =>
      have ok := pvOp_ok hb p0 p1 h2 hg
      have hw := wd_in hb (p := y.1.1) (by omega) ok.2.1
      show flOK (if (wd g n y.1.1).1 = 6 then .inl ((wd g n y.1.1).2.1, (wd g n y.1.1).2.2.1) else if (wd g n y.1.1).1 = 5 ∧ (wd g n y.1.1).2.1 = 44 then pvOps g n m ((wd g n y.1.1).2.2.2, y.1.2) (I ++ y.2.1) (OL ++ [y.2.2]) (sMany s (s.2.2.2.1 + 1)) else if (wd g n y.1.1).1 = 0 then .inr (y.1, I ++ y.2.1, OL ++ [y.2.2], sMany s (s.2.2.2.1 + 1)) else .inl (5, (wd g n y.1.1).2.2.1) : fE ⊕ (qS × pI × List pvO × pvS)) ∧ ∀ z, (if (wd g n y.1.1).1 = 6 then .inl ((wd g n y.1.1).2.1, (wd g n y.1.1).2.2.1) else if (wd g n y.1.1).1 = 5 ∧ (wd g n y.1.1).2.1 = 44 then pvOps g n m ((wd g n y.1.1).2.2.2, y.1.2) (I ++ y.2.1) (OL ++ [y.2.2]) (sMany s (s.2.2.2.1 + 1)) else if (wd g n y.1.1).1 = 0 then .inr (y.1, I ++ y.2.1, OL ++ [y.2.2], sMany s (s.2.2.2.1 + 1)) else .inl (5, (wd g n y.1.1).2.2.1) : fE ⊕ (qS × pI × List pvO × pvS)) = .inr z → q.1 ≤ z.1.1 ∧ z.1.1 ≤ n ∧ z.1.2.2 ≤ 2000
      by_cases c6 : (wd g n y.1.1).1 = 6
      · rw [if_pos c6]; exact ⟨flOK.own hb (by omega) ok.2.1 c6, fun z hz => by cases hz⟩
      rw [if_neg c6]
      have h7 := hw.2.2.2.1 c6
      by_cases c44 : (wd g n y.1.1).1 = 5 ∧ (wd g n y.1.1).2.1 = 44
      · rw [if_pos c44]
        have ih := pvOps_fl hb m ((wd g n y.1.1).2.2.2, y.1.2) (I ++ y.2.1) (OL ++ [y.2.2]) (sMany s (s.2.2.2.1 + 1)) (by show (n + 1 - (wd g n y.1.1).2.2.2).toNat ≤ m; omega) (by show 0 ≤ (wd g n y.1.1).2.2.2; omega) h7.2.1 ok.2.2.2.2.1
        exact ⟨ih.1, fun z hz => by
          obtain ⟨i1, i2⟩ := ih.2 z hz
          have i1 : (wd g n y.1.1).2.2.2 ≤ z.1.1 := i1
          exact ⟨by omega, i2⟩⟩
      rw [if_neg c44]
      by_cases c0 : (wd g n y.1.1).1 = 0
      · rw [if_pos c0]; exact ⟨trivial, fun z hz => by cases hz; exact ⟨ok.1, ok.2.1, ok.2.2.2.2.1⟩⟩
      · rw [if_neg c0]; exact ⟨flOK.num (by decide), fun z hz => by cases hz⟩
theorem pvEnd_fl (hb : byG g n) {I : pI} {OL : List pvO} {SL : List pvS} {s : pvS} (p0 : 0 ≤ q.1) (p1 : q.1 ≤ n) (h2 : q.2.2 ≤ 2000) : flOK (pvEnd g n q I OL SL s) ∧ ∀ z, pvEnd g n q I OL SL s = .inr z → q.1 ≤ z.1.1 ∧ z.1.1 ≤ n ∧ z.1.2.2 ≤ 2000 := by
  unfold pvEnd
  by_cases c6 : (wd g n q.1).1 = 6
  · rw [if_pos c6]; exact ⟨flOK.own hb p0 p1 c6, fun z hz => by cases hz⟩
  rw [if_neg c6]
  by_cases c0 : (wd g n q.1).1 = 0
  · rw [if_pos c0]; exact ⟨trivial, fun z hz => by cases hz; exact ⟨Int.le_refl _, p1, h2⟩⟩
  rw [if_neg c0]
  have h1 := pvOps_fl hb (n + 1 - q.1).toNat q I OL s (Nat.le_refl _) p0 p1 h2
  cases hg : pvOps g n (n + 1 - q.1).toNat q I OL s with
  | inl e => rw [hg] at h1; exact ⟨h1.1, fun z hz => by cases hz⟩
  | inr y => exact ⟨trivial, fun z hz => by cases hz; exact h1.2 y hg⟩
theorem pvLine_fl (hb : byG g n) : ∀ (m : Nat) (x : pvB), (n + 1 - x.1.1).toNat ≤ m → 0 ≤ x.1.1 → x.1.1 ≤ n → x.1.2.2 ≤ 2000 → flOK (pvLine g n ln m x) ∧ ∀ z, pvLine g n ln m x = .inr z → x.1.1 ≤ z.1.1 ∧ z.1.1 ≤ n ∧ z.1.2.2 ≤ 2000
  | 0, x, hm, p0, p1, _ => by omega
  | m + 1, x, hm, p0, p1, h2 => by
    have hw := wd_in hb p0 p1
    unfold pvLine
    by_cases c6 : (wd g n x.1.1).1 = 6
    · rw [if_pos c6]; exact ⟨flOK.own hb p0 p1 c6, fun z hz => by cases hz⟩
    rw [if_neg c6]
    have h7 := hw.2.2.2.1 c6
    by_cases c0 : (wd g n x.1.1).1 = 0
    · rw [if_pos c0]; exact ⟨trivial, fun z hz => by cases hz; exact ⟨Int.le_refl _, p1, h2⟩⟩
    rw [if_neg c0]
    by_cases c2 : (wd g n x.1.1).1 = 2 ∧ (wd g n x.1.1).2.2.2 = (wd g n x.1.1).2.2.1 + 1
    · rw [if_pos c2]
      by_cases c4 : (x.2.2.2.length : Int) = 400
      · rw [if_pos c4]; exact ⟨flOK.num (by decide), fun z hz => by cases hz⟩
      rw [if_neg c4]
      have h1 := pvNeed_fl (c := 58) hb (p := (wd g n x.1.1).2.2.2) (by omega) h7.2.1
      cases hg : pvNeed g n (wd g n x.1.1).2.2.2 58 with
      | inl e => rw [hg] at h1; exact ⟨h1, fun z hz => by cases hz⟩
      | inr p' =>
        have n1 := pvNeed_ok hb (by omega) h7.2.1 hg
        have ih := pvLine_fl hb m ((p', x.1.2), x.2.1, x.2.2.1, x.2.2.2 ++ [((1 : Int), (wd g n x.1.1).2.1, (x.2.2.1.length : Int), (0 : Int), (wd g n x.1.1).2.2.1, ln)]) (by show (n + 1 - p').toNat ≤ m; omega) (by show 0 ≤ p'; omega) n1.2 h2
        exact ⟨ih.1, fun z hz => by
          obtain ⟨i1, i2⟩ := ih.2 z hz
          have i1 : p' ≤ z.1.1 := i1
          exact ⟨by omega, i2⟩⟩
    rw [if_neg c2]
    by_cases c1 : (wd g n x.1.1).1 = 1
    rotate_left
    · rw [if_neg c1]; exact ⟨flOK.num (by decide), fun z hz => by cases hz⟩
    rw [if_pos c1]
    split
    · exact ⟨flOK.num (by decide), fun z hz => by cases hz⟩
    have hw2 := wd_in hb (p := (wd g n x.1.1).2.2.2) (by omega) h7.2.1
    by_cases d6 : (wd g n (wd g n x.1.1).2.2.2).1 = 6
    · rw [if_pos d6]; exact ⟨flOK.own hb (by omega) h7.2.1 d6, fun z hz => by cases hz⟩
    rw [if_neg d6]
    have h72 := hw2.2.2.2.1 d6
    split
    · have ih := pvLine_fl hb m (((wd g n (wd g n x.1.1).2.2.2).2.2.2, nmAdd x.1.2.1 (nmO g (wd g n x.1.1).2.2.1 (wd g n x.1.1).2.2.2), x.1.2.2), x.2.1, x.2.2.1, x.2.2.2 ++ [((0 : Int), ((nmIx x.1.2.1 (nmO g (wd g n x.1.1).2.2.1 (wd g n x.1.1).2.2.2) : Nat) : Int), (x.2.2.1.length : Int), (0 : Int), (wd g n x.1.1).2.2.1, ln)]) (by show (n + 1 - (wd g n (wd g n x.1.1).2.2.2).2.2.2).toNat ≤ m; omega) (by show 0 ≤ (wd g n (wd g n x.1.1).2.2.2).2.2.2; omega) h72.2.1 h2
      exact ⟨ih.1, fun z hz => by
        obtain ⟨i1, i2⟩ := ih.2 z hz
        have i1 : (wd g n (wd g n x.1.1).2.2.2).2.2.2 ≤ z.1.1 := i1
        exact ⟨by omega, i2⟩⟩
    · have he := pvEnd_fl (q := ((wd g n x.1.1).2.2.2, nmAdd x.1.2.1 (nmO g (wd g n x.1.1).2.2.1 (wd g n x.1.1).2.2.2), x.1.2.2)) (I := x.2.1) (OL := x.2.2.1) (SL := x.2.2.2) (s := (2, ((nmIx x.1.2.1 (nmO g (wd g n x.1.1).2.2.1 (wd g n x.1.1).2.2.2) : Nat) : Int), (x.2.2.1.length : Int), 0, (wd g n x.1.1).2.2.1, ln)) hb (by show 0 ≤ (wd g n x.1.1).2.2.2; omega) h7.2.1 h2
      exact ⟨he.1, fun z hz => by
        obtain ⟨i1, i2⟩ := he.2 z hz
        have i1 : (wd g n x.1.1).2.2.2 ≤ z.1.1 := i1
        exact ⟨by omega, i2⟩⟩
theorem pvAll_fl (hb : byG g n) : ∀ (m : Nat) (ln : Int) (x : pvB), (n + 1 - x.1.1).toNat ≤ m → 0 ≤ x.1.1 → x.1.1 ≤ n → x.1.2.2 ≤ 2000 → flOK (pvAll g n m ln x)
  | 0, ln, x, hm, p0, p1, _ => by omega
  | m + 1, ln, x, hm, p0, p1, h2 => by
    unfold pvAll
    have h1 := pvLine_fl (ln := ln) hb (n + 1 - x.1.1).toNat x (Nat.le_refl _) p0 p1 h2
    cases hg : pvLine g n ln (n + 1 - x.1.1).toNat x with
    | inl e => rw [hg] at h1; exact h1.1
    | inr z =>
      obtain ⟨i1, i2, i3⟩ := h1.2 z hg
      have hw := wd_in hb (p := z.1.1) (by omega) i2
      show flOK (if (wd g n z.1.1).2.2.1 < n then pvAll g n m (ln + 1) (((wd g n z.1.1).2.2.1 + 1, z.1.2), z.2) else .inr z)
      split
      · exact pvAll_fl hb m (ln + 1) (((wd g n z.1.1).2.2.1 + 1, z.1.2), z.2) (by show (n + 1 - ((wd g n z.1.1).2.2.1 + 1)).toNat ≤ m; omega) (by show 0 ≤ (wd g n z.1.1).2.2.1 + 1; omega) (by show (wd g n z.1.1).2.2.1 + 1 ≤ n; omega) i3
      · trivial
theorem wd_0 (hb : byG g n) (p0 : 0 ≤ p) (p1 : p ≤ n) (h : (wd g n p).1 = 0) : (wd g n p).2.2.2 = (wd g n p).2.2.1 := by
  obtain ⟨r, r0, r1, e, h1⟩ := wd_at hb p0 p1
  rcases h1 with ⟨h1, -⟩ | ⟨h1, h2, h3, h4, h5⟩
  · rw [h1]
  · have := h4 (by omega); omega
end jPure4
