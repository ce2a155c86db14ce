/-! what operands obey, in the pure reader -/
section jPure3
variable {g : Int → Int} {n p c k o r : Int} {q : qS} {L : pI}
theorem pvNeed_ok (hb : byG g n) (p0 : 0 ≤ p) (p1 : p ≤ n) {p' : Int} (h : pvNeed g n p c = .inr p') : p < p' ∧ p' ≤ n := by
  have hw := wd_in hb p0 p1
  unfold pvNeed at h
  split at h
  · cases h
  rename_i c6
  split at h
  · rename_i c5
    have h7 := hw.2.2.2.1 c6
    cases h
    omega
  · cases h
theorem pvBased_ok (hb : byG g n) (p0 : 0 ≤ p) (p1 : p ≤ n) {z : Int × Int} (h : pvBased g n p = .inr z) : p < z.2 ∧ z.2 ≤ n := by
  have hw := wd_in hb p0 p1
  unfold pvBased at h
  split at h
  · cases h
  rename_i c6
  have h7 := hw.2.2.2.1 c6
  split at h
  · cases h
  split at h
  · cases h
  · rename_i p' hp
    cases h
    have := pvNeed_ok hb (by omega) h7.2.1 hp
    show p < p' ∧ p' ≤ n
    omega
theorem pvSum_ok (hb : byG g n) (p0 : 0 ≤ q.1) (p1 : q.1 ≤ n) {z : qS × pI} (h : pvSum g n q = .inr z) : q.1 ≤ z.1.1 ∧ z.1.1 ≤ n ∧ z.1.2.2 = q.2.2 + z.2.length ∧ z.2.length ≤ 60 ∧ (q.2.2 ≤ 2000 → z.1.2.2 ≤ 2000) := by
  have hg := (gp_ok hb 450 (q.1, q.2.1, q.2.2, 0) p0 p1).1 1 1
  unfold pvSum at h
  split at h
  · cases h
  · rename_i y hy
    cases h
    rw [hy] at hg
    obtain ⟨a1, a2, a3, a4, a5, a6, a7⟩ := hg
    have a1 : q.1 ≤ y.1.1 := a1
    have a3 : (y.2.length : Int) = 0 + (y.1.2.2.2 - 0) := a3
    have a4 : y.1.2.2.1 - q.2.2 = y.1.2.2.2 - 0 := a4
    have a6 : (0 : Int) ≤ 60 → y.1.2.2.2 ≤ 60 := a6
    exact ⟨a1, a2, by show y.1.2.2.1 = q.2.2 + y.2.length; omega, by show y.2.length ≤ 60; omega, a7⟩
theorem pvTail_ok (hb : byG g n) (p0 : 0 ≤ q.1) (p1 : q.1 ≤ n) {v : qS × pI × Int × Int × Int} (h : pvTail g n q L c = .inr v) : q.1 ≤ v.1.1 ∧ v.1.1 ≤ n ∧ v.1.2 = q.2 ∧ v.2.1 = L := by
  have hw := wd_in hb p0 p1
  unfold pvTail at h
  split at h
  · cases h
  rename_i c6
  have h7 := hw.2.2.2.1 c6
  split at h
  · split at h
    · cases h
    · rename_i z hz
      cases h
      have := pvBased_ok hb (by omega) h7.2.1 hz
      exact ⟨by show q.1 ≤ z.2; omega, this.2, rfl, rfl⟩
  · cases h
    exact ⟨Int.le_refl _, p1, rfl, rfl⟩
theorem pvMarked_ok (hb : byG g n) (p0 : 0 ≤ q.1) (p1 : q.1 ≤ n) {z : qS × pI × Int} (h : pvMarked g n q = .inr z) : q.1 ≤ z.1.1 ∧ z.1.1 ≤ n ∧ z.1.2.2 = q.2.2 + z.2.1.length ∧ z.2.1.length ≤ 60 ∧ (q.2.2 ≤ 2000 → z.1.2.2 ≤ 2000) := by
  have hw := wd_in hb p0 p1
  unfold pvMarked at h
  split at h
  · cases h
  rename_i c6
  have h7 := hw.2.2.2.1 c6
  split at h
  · cases h
  split at h
  · cases h
  split at h
  · cases h
  rename_i p1' hp1
  have n1 := pvNeed_ok hb (by omega) h7.2.1 hp1
  split at h
  · cases h
  rename_i y hy
  have n2 := pvSum_ok (q := (p1', q.2)) hb (by show 0 ≤ p1'; omega) n1.2 hy
  have n2a : p1' ≤ y.1.1 := n2.1
  split at h
  · cases h
  rename_i p2 hp2
  have n3 := pvNeed_ok hb (by omega) n2.2.1 hp2
  cases h
  exact ⟨by show q.1 ≤ p2; omega, n3.2, n2.2.2.1, n2.2.2.2.1, n2.2.2.2.2⟩
theorem pvVal_ok (hb : byG g n) (p0 : 0 ≤ q.1) (p1 : q.1 ≤ n) (h2 : q.2.2 ≤ 2000) {v : qS × pI × Int × Int × Int} (h : pvVal g n q = .inr v) : q.1 ≤ v.1.1 ∧ v.1.1 ≤ n ∧ v.1.2.2 = q.2.2 + v.2.1.length ∧ v.2.1.length ≤ 60 ∧ v.1.2.2 ≤ 2000 := by
  have hw := wd_in hb p0 p1
  unfold pvVal at h
  split at h
  · rename_i c5
    have h7 := hw.2.2.2.1 (by omega)
    split at h
    · cases h
    rename_i z hz
    have n1 := pvMarked_ok (q := ((wd g n q.1).2.2.2, q.2)) hb (by show 0 ≤ (wd g n q.1).2.2.2; omega) h7.2.1 hz
    have n1a : (wd g n q.1).2.2.2 ≤ z.1.1 := n1.1
    have n2 := pvTail_ok hb (by omega) n1.2.1 h
    obtain ⟨m1, m2, m3, m4⟩ := n2
    rw [m3, m4]
    exact ⟨by omega, m2, n1.2.2.1, n1.2.2.2.1, n1.2.2.2.2 h2⟩
  split at h
  · rename_i c5
    have h7 := hw.2.2.2.1 (by omega)
    split at h
    · cases h
    rename_i c2
    split at h
    · cases h
    rename_i z hz
    have n1 := pvBased_ok hb (by omega) h7.2.1 hz
    cases h
    exact ⟨by show q.1 ≤ z.2; omega, n1.2, rfl, by show 1 ≤ 60; decide, by show q.2.2 + 1 ≤ 2000; omega⟩
  · split at h
    · cases h
    rename_i z hz
    have n1 := pvSum_ok hb p0 p1 hz
    have n2 := pvTail_ok hb (by omega) n1.2.1 h
    obtain ⟨m1, m2, m3, m4⟩ := n2
    rw [m3, m4]
    exact ⟨by omega, m2, n1.2.2.1, n1.2.2.2.1, n1.2.2.2.2 h2⟩
theorem pvOp_ok (hb : byG g n) (p0 : 0 ≤ q.1) (p1 : q.1 ≤ n) (h2 : q.2.2 ≤ 2000) {z : qS × pI × pvO} (h : pvOp g n q k o = .inr z) : q.1 ≤ z.1.1 ∧ z.1.1 ≤ n ∧ z.1.2.2 = q.2.2 + z.2.1.length ∧ z.2.1.length ≤ 60 ∧ z.1.2.2 ≤ 2000 ∧ ¬ o = 800 := by
  have hw := wd_in hb p0 p1
  unfold pvOp at h
  split at h
  · cases h
  rename_i c6
  have h7 := hw.2.2.2.1 c6
  by_cases cf : isFst (wd g n q.1)
  · rw [cif_neg (fun z => z cf)] at h
    split at h
    · cases h
    rename_i c8
    split at h
    · cases h
      exact ⟨by show q.1 ≤ (wd g n q.1).2.2.2; omega, h7.2.1, by show q.2.2 = q.2.2 + ((0 : Nat) : Int); omega, by show 0 ≤ 60; decide, h2, c8⟩
    split at h
    · cases h
      exact ⟨by show q.1 ≤ (wd g n q.1).2.2.2; omega, h7.2.1, by show q.2.2 = q.2.2 + ((0 : Nat) : Int); omega, by show 0 ≤ 60; decide, h2, c8⟩
    split at h
    · cases h
    rename_i v hv
    cases h
    have := pvVal_ok hb p0 p1 h2 hv
    exact ⟨this.1, this.2.1, this.2.2.1, this.2.2.2.1, this.2.2.2.2, c8⟩
  · rw [cif_pos cf] at h; cases h
/-- strings -/
theorem wd1_st (hb : byG g n) (r0 : 0 ≤ r) (r1 : r ≤ n) (h : (wd1 g n r).1 = 4) : wd1 g n r = wdS g n r := by
  unfold wd1 at h ⊢
  by_cases c0 : bt g n r = 10 ∨ bt g n r = -1
  · rw [if_pos c0] at h; exact absurd h (by show ¬ (0 : Int) = 4; decide)
  rw [if_neg c0] at h ⊢
  by_cases c1 : isBg (bt g n r)
  · rw [cif_pos c1] at h
    unfold wdI at h
    split at h
    · exact absurd h (by show ¬ (6 : Int) = 4; decide)
    split at h
    · exact absurd h (by show ¬ (7 : Int) = 4; decide)
    · exact absurd h (by show ¬ (1 : Int) = 4; decide)
  rw [cif_neg c1] at h ⊢
  by_cases c2 : isDg (bt g n r)
  · rw [cif_pos c2] at h
    exfalso
    unfold wdN at h
    split at h
    · have := wdG_nm (g := g) (n := n) (r := r) (f := r + 2) (e := 16); omega
    split at h
    · have := wdG_nm (g := g) (n := n) (r := r) (f := r + 2) (e := 2); omega
    by_cases c3 : (bt g n (r + 1) = 98 ∨ bt g n (r + 1) = 102) ∧ ¬ isIn (bt g n (r + 2))
    · rw [cif_pos c3] at h; exact absurd h (by show ¬ (3 : Int) = 4; decide)
    · rw [cif_neg c3] at h; have := wdG_nm (g := g) (n := n) (r := r) (f := r) (e := 10); omega
  rw [cif_neg c2] at h ⊢
  split at h
  · exfalso
    unfold wdC at h
    by_cases c3 : inOK g n (r + 1) 39 ∧ bt g n (inT g n (r + 1)) = 39
    · rw [cif_pos c3] at h; exact absurd h (by show ¬ (2 : Int) = 4; decide)
    · rw [cif_neg c3] at h; exact absurd h (by show ¬ (6 : Int) = 4; decide)
  rename_i x39
  rw [if_neg x39]
  split at h
  · rename_i x34
    rw [if_pos x34]
  rename_i x34
  exfalso
  unfold wdY at h
  split at h
  · exact absurd h (by show ¬ (5 : Int) = 4; decide)
  · by_cases c3 : sgOK (bt g n r)
    · rw [cif_pos c3] at h; exact absurd h (by show ¬ (5 : Int) = 4; decide)
    · rw [cif_neg c3] at h; exact absurd h (by show ¬ (6 : Int) = 4; decide)
theorem wd_st (hb : byG g n) (p0 : 0 ≤ p) (p1 : p ≤ n) (h : (wd g n p).1 = 4) : (wd g n p).2.2.2 = stQ g n (wd g n p).2.2.1 (stM g n (wd g n p).2.2.1) + 1 ∧ (wd g n p).2.2.1 + 2 + stM g n (wd g n p).2.2.1 ≤ (wd g n p).2.2.2 := by
  obtain ⟨⟨s1, s2, s3⟩, s4⟩ := up_to (g := g) (n := n) (P := spP) (by unfold spP; omega) p1
  have fin : ∀ r, 0 ≤ r → r ≤ n → (wd1 g n r).1 = 4 → (wd1 g n r).2.2.2 = stQ g n (wd1 g n r).2.2.1 (stM g n (wd1 g n r).2.2.1) + 1 ∧ (wd1 g n r).2.2.1 + 2 + stM g n (wd1 g n r).2.2.1 ≤ (wd1 g n r).2.2.2 := fun r r0 r1 h => by
    have e := wd1_st hb r0 r1 h
    rw [e] at h ⊢
    have lo := stQ_lo (g := g) (n := n) (r := r) (stM g n r)
    unfold wdS at h ⊢
    split at h
    · rename_i z
      rw [if_pos z]
      exact ⟨rfl, by show r + 2 + stM g n r ≤ stQ g n r (stM g n r) + 1; omega⟩
    · exact absurd h (by show ¬ (6 : Int) = 4; decide)
  unfold wd at h ⊢
  generalize up g n spP p = q0 at *
  by_cases c : bt g n q0 = 35
  · rw [if_pos c] at h ⊢
    obtain ⟨⟨d1, d2, d3⟩, d4⟩ := up_to (g := g) (n := n) (P := cmP) (p := q0) (by unfold cmP; omega) s4
    generalize up g n cmP q0 = q1 at *
    by_cases c2 : bt g n q1 = 10 ∨ bt g n q1 = -1
    · rw [if_pos c2] at h ⊢; exact fin q1 (by omega) d4 h
    · rw [if_neg c2] at h; exact absurd h (by show ¬ (6 : Int) = 4; decide)
  · rw [if_neg c] at h ⊢; exact fin q0 (by omega) s4 h
end jPure3
