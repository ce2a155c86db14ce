/-! what a read text obeys (pure): expressions, operands, statements, all *-/
section jGood2
variable {g : Int → Int} {n p q r k a c f e b d o v ln : Int} {W : wR4} {L L1 L2 I I' P : pI} {st st' : pS} {G : gP} {l : List Int} {NL : List (List Int)} {OL : List pvO} {SL : List pvS}
theorem gp_gd (hb : byG g n) : ∀ (k : Nat) (st : pS), 0 ≤ st.1 → st.1 ≤ n → nmsG st.2.1 → (∀ d l, gGd st ((gp g n k).1 st d l)) ∧ (∀ L d l, itsG st.2.1.length L → rpW L 0 1 → gGd st ((gp g n k).2.1 L st d l)) ∧ (∀ d, gGd st ((gp g n k).2.2.1 st d)) ∧ (∀ d, gGd st ((gp g n k).2.2.2 st d))
  | 0, st, p0, p1, hN => ⟨fun _ _ => trivial, fun _ _ _ _ _ => trivial, fun _ => trivial, fun _ => trivial⟩
  | k + 1, st, p0, p1, hN => by
    have ih := gp_gd hb k
    have ok := gp_ok hb k
    have hw := wd_in hb p0 p1
    have hx := wd_xt hb p0 p1
    refine ⟨fun d l => ?_, fun L d l hI hL => ?_, fun d => ?_, fun d => ?_⟩
    · rw [gp_sum]; unfold sumF
      have e := (ih st p0 p1 hN).2.2.1 d
      have o := (ok st p0 p1).2.2.1 d
      cases hS : (gp g n k).2.2.1 st d with
      | inl z => trivial
      | inr z =>
        rw [hS] at e o
        obtain ⟨n1, n2, n3, n4⟩ := e
        have f := (ih z.1 (by have := o.1; omega) o.2.1 n1).2.1 z.2 d l n3 n4
        show gGd st ((gp g n k).2.1 z.2 z.1 d l)
        cases hM : (gp g n k).2.1 z.2 z.1 d l with
        | inl _ => trivial
        | inr y => rw [hM] at f; exact ⟨f.1, by have := f.2.1; omega, f.2.2⟩
    · rw [gp_mor]
      exact mor_gd hb (fun st d l q0 q1 => (ok st q0 q1).1 d l) (fun st d l q0 q1 hn => (ih st q0 q1 hn).1 d l) _ L st p0 p1 hN hI hL
    · rw [gp_sgl, sglF_eq]
      by_cases c6 : (wd g n st.1).1 = 6
      · rw [if_pos c6]; trivial
      rw [if_neg c6]
      have h7 := hw.2.2.2.1 c6
      by_cases c5 : ¬ ((wd g n st.1).1 = 5 ∧ ((wd g n st.1).2.1 = 45 ∨ (wd g n st.1).2.1 = 126 ∨ (wd g n st.1).2.1 = 40)) ∧ ¬ ((wd g n st.1).1 = 1 ∨ (wd g n st.1).1 = 7 ∨ (wd g n st.1).1 = 2 ∨ (wd g n st.1).1 = 3)
      · rw [if_pos c5]; trivial
      rw [if_neg c5]
      by_cases cr : ((wd g n st.1).1 = 1 ∨ (wd g n st.1).1 = 7) ∧ ¬ rgO (nmO g (wd g n st.1).2.2.1 (wd g n st.1).2.2.2) = -1
      · rw [if_pos cr]; trivial
      rw [if_neg cr]
      unfold sgR
      by_cases cd : 20 < d
      · rw [if_pos cd]; trivial
      rw [if_neg cd]
      have h0 : 0 ≤ (wd g n st.1).2.2.2 := by have := hw.1; omega
      by_cases cb : (wd g n st.1).1 = 5 ∧ (wd g n st.1).2.1 = 40
      · rw [if_pos cb]; exact (ih ((wd g n st.1).2.2.2, st.2) h0 h7.2.1 hN).2.2.2 (d + 1)
      rw [if_neg cb]
      by_cases cc : st.2.2.1 = 2000 ∨ st.2.2.2 = 60
      · rw [if_pos cc]; trivial
      rw [if_neg cc]
      by_cases cu : (wd g n st.1).1 = 5
      · rw [if_pos cu]
        have e := (ih ((wd g n st.1).2.2.2, st.2.1, st.2.2.1 + 1, st.2.2.2 + 1) h0 h7.2.1 hN).2.2.1 (d + 1)
        cases hS : (gp g n k).2.2.1 ((wd g n st.1).2.2.2, st.2.1, st.2.2.1 + 1, st.2.2.2 + 1) (d + 1) with
        | inl z => trivial
        | inr z =>
          rw [hS] at e
          obtain ⟨n1, n2, n3, n4⟩ := e
          refine ⟨n1, n2, n3.app (itsG.one ?_), rpW_un n4 ?_ ?_⟩
          · unfold itGd; show _ ∨ _ ∨ _ ∨ _ ∨ (10 ≤ (if (wd g n st.1).2.1 = 45 then (10 : Int) else 11) ∧ (if (wd g n st.1).2.1 = 45 then (10 : Int) else 11) ≤ 21)
            right; right; right; right; split <;> omega
          · split <;> omega
          · split <;> omega
      rw [if_neg cu]
      by_cases c1 : (wd g n st.1).1 = 1
      · rw [if_pos c1]
        by_cases c150 : nmIx st.2.1 (nmO g (wd g n st.1).2.2.1 (wd g n st.1).2.2.2) = 150
        · rw [if_pos c150]; trivial
        rw [if_neg c150]
        obtain ⟨n1, n2, n3⟩ := nmAdd_gd hN (nmO_gd hb p0 p1 c1)
        exact ⟨n1, n2, itsG.one (.inr (.inl ⟨rfl, Int.natCast_nonneg _, by show ((nmIx st.2.1 (nmO g (wd g n st.1).2.2.1 (wd g n st.1).2.2.2) : Nat) : Int) < (((nmAdd st.2.1 (nmO g (wd g n st.1).2.2.1 (wd g n st.1).2.2.2)).length : Nat) : Int); omega⟩)), rpW_leaf (by decide)⟩
      rw [if_neg c1]
      by_cases c2 : (wd g n st.1).1 = 2
      · rw [if_pos c2]; exact ⟨hN, Nat.le_refl _, itsG.one (.inl ⟨rfl, hw.2.2.2.2.2.1⟩), rpW_leaf (by decide)⟩
      rw [if_neg c2]
      by_cases c3 : (wd g n st.1).1 = 3
      · rw [if_pos c3]; exact ⟨hN, Nat.le_refl _, itsG.one (.inr (.inr (.inl ⟨rfl, hx.2.1 c3⟩))), rpW_leaf (by decide)⟩
      rw [if_neg c3]
      exact ⟨hN, Nat.le_refl _, itsG.one (.inr (.inr (.inr (.inl rfl)))), rpW_leaf (by decide)⟩
    · rw [gp_inb]; unfold inBrF
      have e := (ih st p0 p1 hN).1 d 1
      cases hS : (gp g n k).1 st d 1 with
      | inl z => trivial
      | inr z =>
        rw [hS] at e
        show gGd st (if (wd g n z.1.1).1 = 6 then _ else if (wd g n z.1.1).1 = 5 ∧ (wd g n z.1.1).2.1 = 41 then _ else _)
        by_cases c6 : (wd g n z.1.1).1 = 6
        · rw [if_pos c6]; trivial
        rw [if_neg c6]
        by_cases c41 : (wd g n z.1.1).1 = 5 ∧ (wd g n z.1.1).2.1 = 41
        · rw [if_pos c41]; exact e
        · rw [if_neg c41]; trivial
/-- a value: names, items -/
def qGd (q : qS) (q' : qS) (L : pI) : Prop := nmsG q'.2.1 ∧ q.2.1.length ≤ q'.2.1.length ∧ itsG q'.2.1.length L ∧ rpW L 0 1
theorem pvSum_gd (hb : byG g n) {q : qS} (p0 : 0 ≤ q.1) (p1 : q.1 ≤ n) (hN : nmsG q.2.1) {z : qS × pI} (h : pvSum g n q = .inr z) : qGd q z.1 z.2 := by
  unfold pvSum at h
  have e := (gp_gd hb 450 (q.1, q.2.1, q.2.2, 0) p0 p1 hN).1 1 1
  cases hS : (gp g n 450).1 (q.1, q.2.1, q.2.2, 0) 1 1 with
  | inl y => rw [hS] at h; cases h
  | inr y =>
    rw [hS] at h e
    have h' := Sum.inr.inj h
    rw [← h']; exact e
theorem pvTail_gd {q : qS} {mk : Int} {v : qS × pI × Int × Int × Int} (h : pvTail g n q L mk = .inr v) : v.1.2 = q.2 ∧ v.2.1 = L ∧ v.2.2.2.2 = mk ∧ (v.2.2.1 = 0 ∨ v.2.2.1 = 2) ∧ (v.2.2.1 = 2 → ∃ p, pvBased g n p = .inr (v.2.2.2.1, v.1.1)) := by
  unfold pvTail at h
  by_cases c6 : (wd g n q.1).1 = 6
  · rw [if_pos c6] at h; cases h
  rw [if_neg c6] at h
  by_cases c40 : (wd g n q.1).1 = 5 ∧ (wd g n q.1).2.1 = 40
  · rw [if_pos c40] at h
    cases hB : pvBased g n (wd g n q.1).2.2.2 with
    | inl e => rw [hB] at h; cases h
    | inr z =>
      rw [hB] at h
      rw [← Sum.inr.inj h]
      exact ⟨rfl, rfl, rfl, .inr rfl, fun _ => ⟨_, hB⟩⟩
  · rw [if_neg c40] at h
    rw [← Sum.inr.inj h]
    exact ⟨rfl, rfl, rfl, .inl rfl, fun z => absurd z (show ¬ (0 : Int) = 2 by decide)⟩
theorem rgV_lo (h : 0 ≤ v) : -1 ≤ rgV c v ∧ rgV c v ≤ 31 := by unfold rgV; repeat' split <;> omega
theorem rgN_lo (l : List Int) : -1 ≤ rgN l ∧ rgN l ≤ 31 := by
  unfold rgN
  by_cases c1 : l.length = 2 ∧ isDg (l.getD 1 0)
  · rw [cif_pos c1]
    have := c1.2; unfold isDg at this
    exact rgV_lo (by omega)
  rw [cif_neg c1]
  by_cases c2 : l.length = 3 ∧ isDg (l.getD 1 0) ∧ isDg (l.getD 2 0) ∧ ¬ l.getD 1 0 = 48
  · rw [cif_pos c2]
    have h1 := c2.2.1; have h2 := c2.2.2.1; unfold isDg at h1 h2
    exact rgV_lo (by omega)
  · rw [cif_neg c2]; omega
theorem rgO_lo (l : List Int) : -1 ≤ rgO l ∧ rgO l ≤ 31 := by
  have := rgN_lo l
  unfold rgO
  repeat' split
  all_goals omega
theorem mkO_lo (l : List Int) : 0 ≤ mkO l ∧ mkO l ≤ 4 := by unfold mkO; repeat' split <;> omega
theorem pvBased_rg {z : Int × Int} (h : pvBased g n p = .inr z) : 0 ≤ z.1 ∧ z.1 ≤ 31 := by
  unfold pvBased at h
  by_cases c6 : (wd g n p).1 = 6
  · rw [if_pos c6] at h; cases h
  rw [if_neg c6] at h
  by_cases cr : pvReg g (wd g n p) = -1
  · rw [if_pos cr] at h; cases h
  rw [if_neg cr] at h
  cases hB : pvNeed g n (wd g n p).2.2.2 41 with
  | inl e => rw [hB] at h; cases h
  | inr y =>
    rw [hB] at h
    rw [← Sum.inr.inj h]
    show 0 ≤ pvReg g (wd g n p) ∧ pvReg g (wd g n p) ≤ 31
    unfold pvReg at cr ⊢
    by_cases ck : (wd g n p).1 = 1 ∨ (wd g n p).1 = 7
    · rw [if_pos ck] at cr ⊢; have := rgO_lo (nmO g (wd g n p).2.2.1 (wd g n p).2.2.2); omega
    · rw [if_neg ck] at cr; exact absurd rfl cr
/-- a value's sort, register, mark -/
def vGd (so rg mk : Int) : Prop := (so = 0 ∨ so = 2) ∧ (so = 2 → 0 ≤ rg ∧ rg ≤ 31) ∧ 0 ≤ mk ∧ mk ≤ 4
theorem pvVal_gd (hb : byG g n) {q : qS} (p0 : 0 ≤ q.1) (p1 : q.1 ≤ n) (c6 : ¬ (wd g n q.1).1 = 6) (hN : nmsG q.2.1) {v : qS × pI × Int × Int × Int} (h : pvVal g n q = .inr v) : qGd q v.1 v.2.1 ∧ vGd v.2.2.1 v.2.2.2.1 v.2.2.2.2 := by
  have hw := wd_in hb p0 p1
  have h7 := hw.2.2.2.1 c6
  have tl : ∀ {q' : qS} {L : pI} {mk : Int}, qGd q q' L → 0 ≤ mk ∧ mk ≤ 4 → pvTail g n q' L mk = .inr v → qGd q v.1 v.2.1 ∧ vGd v.2.2.1 v.2.2.2.1 v.2.2.2.2 := fun hq hm ht => by
    obtain ⟨t1, t2, t3, t4, t5⟩ := pvTail_gd ht
    refine ⟨by unfold qGd at *; rw [t1, t2]; exact hq, t4, fun z => ?_, by rw [t3]; exact hm⟩
    obtain ⟨y, hy⟩ := t5 z
    exact pvBased_rg (z := (v.2.2.2.1, v.1.1)) hy
  unfold pvVal at h
  have h0 : 0 ≤ (wd g n q.1).2.2.2 := by have := hw.1; omega
  by_cases c37 : (wd g n q.1).1 = 5 ∧ (wd g n q.1).2.1 = 37
  · rw [if_pos c37] at h
    cases hM : pvMarked g n ((wd g n q.1).2.2.2, q.2) with
    | inl e => rw [hM] at h; cases h
    | inr z =>
      rw [hM] at h
      have hm : qGd q z.1 z.2.1 ∧ 0 ≤ z.2.2 ∧ z.2.2 ≤ 4 := by
        unfold pvMarked at hM
        have e0 : ((((wd g n q.1).2.2.2, q.2) : qS).1) = (wd g n q.1).2.2.2 := rfl
        rw [e0] at hM
        by_cases d6 : (wd g n (wd g n q.1).2.2.2).1 = 6
        · rw [if_pos d6] at hM; cases hM
        rw [if_neg d6] at hM
        by_cases d1 : ¬ ((wd g n (wd g n q.1).2.2.2).1 = 1 ∨ (wd g n (wd g n q.1).2.2.2).1 = 7)
        · rw [if_pos d1] at hM; cases hM
        rw [if_neg d1] at hM
        by_cases d0 : mkO (nmO g (wd g n (wd g n q.1).2.2.2).2.2.1 (wd g n (wd g n q.1).2.2.2).2.2.2) = 0
        · rw [if_pos d0] at hM; cases hM
        rw [if_neg d0] at hM
        have hw2 := wd_in hb h0 h7.2.1
        have h72 := hw2.2.2.2.1 d6
        cases hn : pvNeed g n (wd g n (wd g n q.1).2.2.2).2.2.2 40 with
        | inl e => rw [hn] at hM; cases hM
        | inr y =>
          rw [hn] at hM
          have oy := pvNeed_ok hb (by have := hw2.1; omega) h72.2.1 hn
          cases hS : pvSum g n (y, q.2) with
          | inl e =>
            exact absurd hM (by show ¬ (match pvSum g n (y, q.2) with | Sum.inl e => Sum.inl e | Sum.inr z => _ : fE ⊕ (qS × pI × Int)) = _; rw [hS]; exact fun q => nomatch q)
          | inr x =>
            have hM' : (match pvNeed g n x.1.1 41 with | .inl e => .inl e | .inr p2 => .inr ((p2, x.1.2), x.2, mkO (nmO g (wd g n (wd g n q.1).2.2.2).2.2.1 (wd g n (wd g n q.1).2.2.2).2.2.2)) : fE ⊕ (qS × pI × Int)) = .inr z := by
              have : (match pvSum g n (y, q.2) with | .inl e => .inl e | .inr z => match pvNeed g n z.1.1 41 with | .inl e => .inl e | .inr p2 => .inr ((p2, z.1.2), z.2, mkO (nmO g (wd g n (wd g n q.1).2.2.2).2.2.1 (wd g n (wd g n q.1).2.2.2).2.2.2)) : fE ⊕ (qS × pI × Int)) = .inr z := hM
              rw [hS] at this; exact this
            have es := pvSum_gd hb (q := (y, q.2)) (by show 0 ≤ y; have := hw2.1; omega) oy.2 hN hS
            cases h41 : pvNeed g n x.1.1 41 with
            | inl e => rw [h41] at hM'; cases hM'
            | inr p2 =>
              rw [h41] at hM'
              rw [← Sum.inr.inj hM']
              exact ⟨es, mkO_lo _⟩
      exact tl hm.1 hm.2 h
  rw [if_neg c37] at h
  by_cases cm : ((wd g n q.1).1 = 5 ∧ (wd g n q.1).2.1 = 40) ∧ ¬ pvReg g (wd g n (wd g n q.1).2.2.2) = -1
  · rw [if_pos cm] at h
    by_cases c2 : q.2.2 = 2000
    · rw [if_pos c2] at h; cases h
    rw [if_neg c2] at h
    cases hB : pvBased g n (wd g n q.1).2.2.2 with
    | inl e => rw [hB] at h; cases h
    | inr z =>
      rw [hB] at h
      rw [← Sum.inr.inj h]
      exact ⟨⟨hN, Nat.le_refl _, itsG.one (.inl ⟨rfl, by show jin 0; unfold jin; omega⟩), rpW_leaf (by decide)⟩, .inr rfl, fun _ => pvBased_rg (z := z) hB, by show (0 : Int) ≤ 0; decide, by show (0 : Int) ≤ 4; decide⟩
  rw [if_neg cm] at h
  cases hS : pvSum g n q with
  | inl e => rw [hS] at h; cases h
  | inr z =>
    rw [hS] at h
    exact tl (pvSum_gd hb p0 p1 hN hS) ⟨by decide, by decide⟩ h
/-- items of a row make one value -/
def rpX (I : pI) : Nat → Nat → Int → Prop
  | 0, _, d => d = 1
  | m + 1, k, d => if (I.getD k (0, 0)).1 < 10 then rpX I m (k + 1) (d + 1) else if (I.getD k (0, 0)).1 < 12 then 1 ≤ d ∧ rpX I m (k + 1) d else 2 ≤ d ∧ rpX I m (k + 1) (d - 1)
theorem rpX_of : ∀ {L : pI} {I : pI} {k : Nat} {d : Int}, rpW L d 1 → (∀ i : Nat, i < L.length → I.getD (k + i) (0, 0) = L.getD i (0, 0)) → rpX I L.length k d
  | [], I, k, d, h, he => h
  | z :: L, I, k, d, h, he => by
    have e0 : I.getD k (0, 0) = z := by have := he 0 (Nat.zero_lt_succ _); simpa using this
    have e1 : ∀ i : Nat, i < L.length → I.getD (k + 1 + i) (0, 0) = L.getD i (0, 0) := fun i hi => by
      have := he (i + 1) (Nat.succ_lt_succ hi)
      rw [show k + 1 + i = k + (i + 1) by omega, this]; simp
    have h' : (if z.1 < 10 then rpW L (d + 1) 1 else if z.1 < 12 then 1 ≤ d ∧ rpW L d 1 else 2 ≤ d ∧ rpW L (d - 1) 1) := h
    show (if (I.getD k (0, 0)).1 < 10 then rpX I L.length (k + 1) (d + 1) else if (I.getD k (0, 0)).1 < 12 then 1 ≤ d ∧ rpX I L.length (k + 1) d else 2 ≤ d ∧ rpX I L.length (k + 1) (d - 1))
    rw [e0]
    by_cases c1 : z.1 < 10
    · rw [if_pos c1] at h' ⊢; exact rpX_of h' e1
    · rw [if_neg c1] at h' ⊢
      by_cases c2 : z.1 < 12
      · rw [if_pos c2] at h' ⊢; exact ⟨h'.1, rpX_of h'.2 e1⟩
      · rw [if_neg c2] at h' ⊢; exact ⟨h'.1, rpX_of h'.2 e1⟩
theorem rpX_cg : ∀ {m : Nat} {k : Nat} {d : Int}, rpX I m k d → (∀ i : Nat, k ≤ i → i < k + m → I'.getD i (0, 0) = I.getD i (0, 0)) → rpX I' m k d
  | 0, k, d, h, he => h
  | m + 1, k, d, h, he => by
    have e0 := he k (Nat.le_refl _) (by omega)
    have e1 : ∀ i : Nat, k + 1 ≤ i → i < k + 1 + m → I'.getD i (0, 0) = I.getD i (0, 0) := fun i i0 i1 => he i (by omega) (by omega)
    have h' : (if (I.getD k (0, 0)).1 < 10 then rpX I m (k + 1) (d + 1) else if (I.getD k (0, 0)).1 < 12 then 1 ≤ d ∧ rpX I m (k + 1) d else 2 ≤ d ∧ rpX I m (k + 1) (d - 1)) := h
    show (if (I'.getD k (0, 0)).1 < 10 then rpX I' m (k + 1) (d + 1) else if (I'.getD k (0, 0)).1 < 12 then 1 ≤ d ∧ rpX I' m (k + 1) d else 2 ≤ d ∧ rpX I' m (k + 1) (d - 1))
    rw [e0]
    by_cases c1 : (I.getD k (0, 0)).1 < 10
    · rw [if_pos c1] at h' ⊢; exact rpX_cg h' e1
    · rw [if_neg c1] at h' ⊢
      by_cases c2 : (I.getD k (0, 0)).1 < 12
      · rw [if_pos c2] at h' ⊢; exact ⟨h'.1, rpX_cg h'.2 e1⟩
      · rw [if_neg c2] at h' ⊢; exact ⟨h'.1, rpX_cg h'.2 e1⟩
/-- an operand, a statement as they are *-/
def opGd (I : pI) (z : pvO) : Prop := (0 ≤ z.2.2.2.1 ∧ z.2.2.2.1 + z.2.2.2.2.1 ≤ I.length ∧ 0 ≤ z.2.2.2.2.1 ∧ z.2.2.2.2.1 ≤ 60) ∧ (z.1 = 0 ∨ z.1 = 2 → 1 ≤ z.2.2.2.2.1 ∧ rpX I z.2.2.2.2.1.toNat z.2.2.2.1.toNat 0) ∧ (0 ≤ z.1 ∧ z.1 ≤ 3) ∧ (z.1 = 1 ∨ z.1 = 2 → 0 ≤ z.2.1 ∧ z.2.1 ≤ 31) ∧ (0 ≤ z.2.2.1 ∧ z.2.2.1 ≤ 4) ∧ (z.1 = 1 ∨ z.1 = 3 → z.2.2.1 = 0) ∧ (¬ z.1 = 3 → z.2.2.2.2.2.2 = []) ∧ 0 ≤ z.2.2.2.2.2.1
def stGd (N O : Int) (z : pvS) : Prop := (z.1 = 0 ∨ z.1 = 2 → 0 ≤ z.2.1 ∧ z.2.1 < N) ∧ (z.1 = 1 → 0 ≤ z.2.1 ∧ z.2.1 ≤ 9) ∧ (0 ≤ z.1 ∧ z.1 ≤ 2) ∧ 0 ≤ z.2.2.1 ∧ 0 ≤ z.2.2.2.1 ∧ z.2.2.1 + z.2.2.2.1 ≤ O
def bGd (NL : List (List Int)) (I : pI) (OL : List pvO) (SL : List pvS) : Prop := nmsG NL ∧ itsG NL.length I ∧ (∀ z ∈ OL, opGd I z) ∧ ∀ z ∈ SL, stGd NL.length OL.length z
theorem opGd.app {z : pvO} (h : opGd I z) : opGd (I ++ L) z := by
  obtain ⟨⟨h1, h2, h3, h4⟩, h5, h6⟩ := h
  refine ⟨⟨h1, by rw [List.length_append]; omega, h3, h4⟩, fun q => ⟨(h5 q).1, rpX_cg (h5 q).2 fun i i0 i1 => ?_⟩, h6⟩
  rw [List.getD_eq_getElem?_getD, List.getD_eq_getElem?_getD, List.getElem?_append_left (by omega)]
theorem stGd.up {N O N' O' : Int} {z : pvS} (h : stGd N O z) (hN : N ≤ N') (hO : O ≤ O') : stGd N' O' z := by
  obtain ⟨h1, h2, h3, h4, h5, h6⟩ := h
  exact ⟨fun q => by have := h1 q; omega, h2, h3, h4, h5, by omega⟩
theorem pvOp_gd (hb : byG g n) {q : qS} (p0 : 0 ≤ q.1) (p1 : q.1 ≤ n) (h2 : q.2.2 ≤ 2000) (hN : nmsG q.2.1) {z : qS × pI × pvO} (h : pvOp g n q I.length o = .inr z) : nmsG z.1.2.1 ∧ q.2.1.length ≤ z.1.2.1.length ∧ itsG z.1.2.1.length z.2.1 ∧ opGd (I ++ z.2.1) z.2.2 := by
  have okk := pvOp_ok hb p0 p1 h2 h
  have hpl : 0 ≤ (wd g n q.1).2.2.1 := by have := (wd_in hb p0 p1).1; omega
  unfold pvOp at h
  by_cases c6 : (wd g n q.1).1 = 6
  · rw [if_pos c6] at h; cases h
  rw [if_neg c6] at h
  by_cases cf : isFst (wd g n q.1)
  rotate_left
  · rw [cif_pos cf] at h; cases h
  rw [cif_neg (fun z => z cf)] at h
  by_cases c8 : o = 800
  · rw [if_pos c8] at h; cases h
  rw [if_neg c8] at h
  have ln : (0 : Int) ≤ I.length := Int.natCast_nonneg _
  by_cases c4 : (wd g n q.1).1 = 4
  · rw [if_pos c4] at h
    rw [← Sum.inr.inj h]
    exact ⟨hN, Nat.le_refl _, fun x hx => absurd hx (List.not_mem_nil), ⟨ln, by show (I.length : Int) + 0 ≤ ((I ++ []).length : Int); rw [List.append_nil]; omega, by show (0 : Int) ≤ 0; decide, by show (0 : Int) ≤ 60; decide⟩, fun z => absurd z (show ¬ ((3 : Int) = 0 ∨ (3 : Int) = 2) by decide), ⟨by show (0 : Int) ≤ 3; decide, by show (3 : Int) ≤ 3; decide⟩, fun z => absurd z (show ¬ ((3 : Int) = 1 ∨ (3 : Int) = 2) by decide), ⟨by show (0 : Int) ≤ 0; decide, by show (0 : Int) ≤ 4; decide⟩, fun _ => rfl, fun z => absurd rfl z, hpl⟩
  rw [if_neg c4] at h
  by_cases cr : ¬ pvReg g (wd g n q.1) = -1
  · rw [if_pos cr] at h
    rw [← Sum.inr.inj h]
    have hr : 0 ≤ pvReg g (wd g n q.1) ∧ pvReg g (wd g n q.1) ≤ 31 := by
      unfold pvReg at cr ⊢
      by_cases ck : (wd g n q.1).1 = 1 ∨ (wd g n q.1).1 = 7
      · rw [if_pos ck] at cr ⊢; have := rgO_lo (nmO g (wd g n q.1).2.2.1 (wd g n q.1).2.2.2); omega
      · rw [if_neg ck] at cr; exact absurd rfl cr
    exact ⟨hN, Nat.le_refl _, fun x hx => absurd hx (List.not_mem_nil), ⟨ln, by show (I.length : Int) + 0 ≤ ((I ++ []).length : Int); rw [List.append_nil]; omega, by show (0 : Int) ≤ 0; decide, by show (0 : Int) ≤ 60; decide⟩, fun z => absurd z (show ¬ ((1 : Int) = 0 ∨ (1 : Int) = 2) by decide), ⟨by show (0 : Int) ≤ 1; decide, by show (1 : Int) ≤ 3; decide⟩, fun _ => hr, ⟨by show (0 : Int) ≤ 0; decide, by show (0 : Int) ≤ 4; decide⟩, fun _ => rfl, fun _ => rfl, hpl⟩
  rw [if_neg cr] at h
  cases hV : pvVal g n q with
  | inl e => rw [hV] at h; cases h
  | inr v =>
    rw [hV] at h
    obtain ⟨⟨n1, n2, n3, n4⟩, m1, m2, m3⟩ := pvVal_gd hb p0 p1 c6 hN hV
    have h' := Sum.inr.inj h
    subst h'
    have o4 : v.2.1.length ≤ 60 := okk.2.2.2.1
    have l1 : 1 ≤ v.2.1.length := by
      cases hl : v.2.1 with
      | nil => rw [hl] at n4; exact absurd (show (0 : Int) = 1 from n4) (by decide)
      | cons x y => simp
    refine ⟨n1, n2, n3, ⟨ln, by show (I.length : Int) + (v.2.1.length : Int) ≤ ((I ++ v.2.1).length : Int); rw [List.length_append]; omega, by show (0 : Int) ≤ (v.2.1.length : Int); omega, by show (v.2.1.length : Int) ≤ 60; omega⟩, fun z => ⟨by show (1 : Int) ≤ (v.2.1.length : Int); omega, ?_⟩, ⟨by show 0 ≤ v.2.2.1; omega, by show v.2.2.1 ≤ 3; omega⟩, fun z => m2 (by have z' : v.2.2.1 = 1 ∨ v.2.2.1 = 2 := z; omega), ⟨m3.1, m3.2⟩, fun z => by have z' : v.2.2.1 = 1 ∨ v.2.2.1 = 3 := z; omega, fun _ => rfl, hpl⟩
    show rpX (I ++ v.2.1) ((v.2.1.length : Int)).toNat ((I.length : Int)).toNat 0
    rw [Int.toNat_natCast, Int.toNat_natCast]
    refine rpX_of n4 fun i hi => ?_
    rw [List.getD_eq_getElem?_getD, List.getD_eq_getElem?_getD, List.getElem?_append_right (by omega), show I.length + i - I.length = i by omega]
theorem pvOps_gd (hb : byG g n) : ∀ (m : Nat) (q : qS) (I : pI) (OL : List pvO) (s : pvS) (z : qS × pI × List pvO × pvS), (n + 1 - q.1).toNat ≤ m → 0 ≤ q.1 → q.1 ≤ n → q.2.2 ≤ 2000 → nmsG q.2.1 → itsG q.2.1.length I → (∀ x ∈ OL, opGd I x) → stGd q.2.1.length OL.length s → pvOps g n m q I OL s = .inr z → nmsG z.1.2.1 ∧ q.2.1.length ≤ z.1.2.1.length ∧ itsG z.1.2.1.length z.2.1 ∧ (∀ x ∈ z.2.2.1, opGd z.2.1 x) ∧ OL.length ≤ z.2.2.1.length ∧ stGd z.1.2.1.length z.2.2.1.length z.2.2.2
  | 0, q, I, OL, s, z, hm, p0, p1, h2, hN, hI, hO, hs, h => absurd hm (by omega)
  | m + 1, q, I, OL, s, z, hm, p0, p1, h2, hN, hI, hO, hs, h => by
    rw [pvOps_s] at h
    cases hP : pvOp g n q I.length OL.length with
    | inl e => rw [hP] at h; cases h
    | inr y =>
      rw [hP] at h
      obtain ⟨o1, o2, o3, o4, o5, o6⟩ := pvOp_ok hb p0 p1 h2 hP
      obtain ⟨n1, n2, n3, n4⟩ := pvOp_gd hb p0 p1 h2 hN hP
      have hI' : itsG y.1.2.1.length (I ++ y.2.1) := (hI.up (by omega)).app n3
      have hO' : ∀ x ∈ OL ++ [y.2.2], opGd (I ++ y.2.1) x := fun x hx => by
        rcases List.mem_append.mp hx with t | t
        · exact (hO x t).app
        · rw [List.mem_singleton.mp t]; exact n4
      have hlen : (OL ++ [y.2.2]).length = OL.length + 1 := by rw [List.length_append]; rfl
      have hs' : stGd y.1.2.1.length (OL ++ [y.2.2]).length (sMany s (s.2.2.2.1 + 1)) := by
        obtain ⟨s1, s2, s3, s4, s5, s6⟩ := hs
        exact ⟨fun t => by have := s1 t; show 0 ≤ s.2.1 ∧ s.2.1 < _; omega, s2, s3, s4, by show 0 ≤ s.2.2.2.1 + 1; omega, by rw [hlen]; show s.2.2.1 + (s.2.2.2.1 + 1) ≤ ((OL.length + 1 : Nat) : Int); omega⟩
      have h' : pvT g n m y.1 (I ++ y.2.1) (OL ++ [y.2.2]) (sMany s (s.2.2.2.1 + 1)) = .inr z := h
      unfold pvT at h'
      by_cases c6 : (wd g n y.1.1).1 = 6
      · rw [if_pos c6] at h'; cases h'
      rw [if_neg c6] at h'
      by_cases c44 : (wd g n y.1.1).1 = 5 ∧ (wd g n y.1.1).2.1 = 44
      · rw [if_pos c44] at h'
        have hw := wd_in hb (by omega) o2
        have h7 := hw.2.2.2.1 c6
        have := pvOps_gd hb m ((wd g n y.1.1).2.2.2, y.1.2) (I ++ y.2.1) (OL ++ [y.2.2]) (sMany s (s.2.2.2.1 + 1)) z (by show (n + 1 - (wd g n y.1.1).2.2.2).toNat ≤ m; have := hw.1; omega) (by show 0 ≤ (wd g n y.1.1).2.2.2; have := hw.1; omega) h7.2.1 o5 n1 hI' hO' hs' h'
        obtain ⟨r1, r2, r3, r4, r5, r6⟩ := this
        have r2' : y.1.2.1.length ≤ z.1.2.1.length := r2
        exact ⟨r1, by omega, r3, r4, by omega, r6⟩
      rw [if_neg c44] at h'
      by_cases c0 : (wd g n y.1.1).1 = 0
      · rw [if_pos c0] at h'
        rw [← Sum.inr.inj h']
        exact ⟨n1, n2, hI', hO', by show OL.length ≤ (OL ++ [y.2.2]).length; omega, hs'⟩
      · rw [if_neg c0] at h'; cases h'
theorem pvLine_gd (hb : byG g n) : ∀ (m : Nat) (x z : pvB), (n + 1 - x.1.1).toNat ≤ m → 0 ≤ x.1.1 → x.1.1 ≤ n → x.1.2.2 ≤ 2000 → bGd x.1.2.1 x.2.1 x.2.2.1 x.2.2.2 → pvLine g n ln m x = .inr z → bGd z.1.2.1 z.2.1 z.2.2.1 z.2.2.2
  | 0, x, z, hm, p0, p1, h2, hx, h => absurd hm (by omega)
  | m + 1, x, z, hm, p0, p1, h2, hx, h => by
    have hw := wd_in hb p0 p1
    obtain ⟨hN, hI, hO, hS⟩ := hx
    by_cases c6 : (wd g n x.1.1).1 = 6
    · rw [show pvLine g n ln (m + 1) x = .inl ((wd g n x.1.1).2.1, (wd g n x.1.1).2.2.1) from if_pos c6] at h; cases h
    by_cases c0 : (wd g n x.1.1).1 = 0
    · rw [show pvLine g n ln (m + 1) x = .inr x from (if_neg c6).trans (if_pos c0)] at h
      rw [← Sum.inr.inj h]; exact ⟨hN, hI, hO, hS⟩
    have h7 := hw.2.2.2.1 c6
    have h0 : 0 ≤ (wd g n x.1.1).2.2.2 := by have := hw.1; omega
    have add : ∀ {N' : Int} {NL' : List (List Int)} {s : pvS}, x.1.2.1.length ≤ NL'.length → stGd NL'.length x.2.2.1.length s → ∀ y ∈ x.2.2.2 ++ [s], stGd NL'.length x.2.2.1.length y := fun hN' hs y hy => by
      rcases List.mem_append.mp hy with t | t
      · exact (hS y t).up (by omega) (Int.le_refl _)
      · rw [List.mem_singleton.mp t]; exact hs
    have ol0 : (0 : Int) ≤ (x.2.2.1.length : Int) := Int.natCast_nonneg _
    by_cases c2 : (wd g n x.1.1).1 = 2 ∧ (wd g n x.1.1).2.2.2 = (wd g n x.1.1).2.2.1 + 1
    · have dg := (wd_xt hb p0 p1).2.2 c2.1 c2.2
      have h' := (show pvLine g n ln (m + 1) x = _ from (if_neg c6).trans ((if_neg c0).trans (if_pos c2))).symm.trans h
      by_cases c400 : (x.2.2.2.length : Int) = 400
      · rw [if_pos c400] at h'; cases h'
      rw [if_neg c400] at h'
      cases hn : pvNeed g n (wd g n x.1.1).2.2.2 58 with
      | inl e => rw [hn] at h'; cases h'
      | inr p =>
        rw [hn] at h'
        have on := pvNeed_ok hb h0 h7.2.1 hn
        refine pvLine_gd hb m ((p, x.1.2), x.2.1, x.2.2.1, x.2.2.2 ++ [((1 : Int), (wd g n x.1.1).2.1, (x.2.2.1.length : Int), (0 : Int), (wd g n x.1.1).2.2.1, ln)]) z (by show (n + 1 - p).toNat ≤ m; have := hw.1; omega) (by show 0 ≤ p; omega) on.2 h2 ⟨hN, hI, hO, add (N' := 0) (Nat.le_refl _) ?_⟩ h'
        exact ⟨fun t => absurd t (show ¬ ((1 : Int) = 0 ∨ (1 : Int) = 2) by decide), fun _ => dg, ⟨by show (0 : Int) ≤ 1; decide, by show (1 : Int) ≤ 2; decide⟩, ol0, by show (0 : Int) ≤ 0; decide, by show (x.2.2.1.length : Int) + 0 ≤ _; omega⟩
    by_cases c1 : (wd g n x.1.1).1 = 1
    rotate_left
    · rw [show pvLine g n ln (m + 1) x = .inl (5, (wd g n x.1.1).2.2.1) from (if_neg c6).trans ((if_neg c0).trans ((if_neg c2).trans (if_neg c1)))] at h; cases h
    have h' := (show pvLine g n ln (m + 1) x = _ from (if_neg c6).trans ((if_neg c0).trans ((if_neg c2).trans (if_pos c1)))).symm.trans h
    obtain ⟨k1, k2, k3⟩ := nmAdd_gd hN (nmO_gd hb p0 p1 c1)
    by_cases c150 : (x.2.2.2.length : Int) = 400 ∨ nmIx x.1.2.1 (nmO g (wd g n x.1.1).2.2.1 (wd g n x.1.1).2.2.2) = 150
    · rw [if_pos c150] at h'; cases h'
    rw [if_neg c150] at h'
    by_cases d6 : (wd g n (wd g n x.1.1).2.2.2).1 = 6
    · rw [if_pos d6] at h'; cases h'
    rw [if_neg d6] at h'
    have hw2 := wd_in hb h0 h7.2.1
    have h72 := hw2.2.2.2.1 d6
    by_cases cL : rgO (nmO g (wd g n x.1.1).2.2.1 (wd g n x.1.1).2.2.2) = -1 ∧ ((wd g n (wd g n x.1.1).2.2.2).1 = 5 ∧ (wd g n (wd g n x.1.1).2.2.2).2.1 = 58)
    · rw [if_pos cL] at h'
      refine pvLine_gd hb m (((wd g n (wd g n x.1.1).2.2.2).2.2.2, nmAdd x.1.2.1 (nmO g (wd g n x.1.1).2.2.1 (wd g n x.1.1).2.2.2), x.1.2.2), x.2.1, x.2.2.1, x.2.2.2 ++ [((0 : Int), ((nmIx x.1.2.1 (nmO g (wd g n x.1.1).2.2.1 (wd g n x.1.1).2.2.2) : Nat) : Int), (x.2.2.1.length : Int), (0 : Int), (wd g n x.1.1).2.2.1, ln)]) z (by show (n + 1 - (wd g n (wd g n x.1.1).2.2.2).2.2.2).toNat ≤ m; have := hw.1; have := hw2.1; omega) (by show 0 ≤ (wd g n (wd g n x.1.1).2.2.2).2.2.2; have := hw2.1; omega) h72.2.1 h2 ⟨k1, hI.up (by show (x.1.2.1.length : Int) ≤ ((nmAdd x.1.2.1 (nmO g (wd g n x.1.1).2.2.1 (wd g n x.1.1).2.2.2)).length : Int); omega), hO, add (N' := 0) k2 ?_⟩ h'
      exact ⟨fun _ => ⟨Int.natCast_nonneg _, by show ((nmIx x.1.2.1 (nmO g (wd g n x.1.1).2.2.1 (wd g n x.1.1).2.2.2) : Nat) : Int) < (((nmAdd x.1.2.1 (nmO g (wd g n x.1.1).2.2.1 (wd g n x.1.1).2.2.2)).length : Nat) : Int); omega⟩, fun t => absurd t (show ¬ (0 : Int) = 1 by decide), ⟨by show (0 : Int) ≤ 0; decide, by show (0 : Int) ≤ 2; decide⟩, ol0, by show (0 : Int) ≤ 0; decide, by show (x.2.2.1.length : Int) + 0 ≤ _; omega⟩
    rw [if_neg cL, pvEnd_2] at h'
    have hs0 : stGd (nmAdd x.1.2.1 (nmO g (wd g n x.1.1).2.2.1 (wd g n x.1.1).2.2.2)).length x.2.2.1.length ((2 : Int), ((nmIx x.1.2.1 (nmO g (wd g n x.1.1).2.2.1 (wd g n x.1.1).2.2.2) : Nat) : Int), (x.2.2.1.length : Int), (0 : Int), (wd g n x.1.1).2.2.1, ln) :=
      ⟨fun _ => ⟨Int.natCast_nonneg _, by show ((nmIx x.1.2.1 (nmO g (wd g n x.1.1).2.2.1 (wd g n x.1.1).2.2.2) : Nat) : Int) < (((nmAdd x.1.2.1 (nmO g (wd g n x.1.1).2.2.1 (wd g n x.1.1).2.2.2)).length : Nat) : Int); omega⟩, fun t => absurd t (show ¬ (2 : Int) = 1 by decide), ⟨by show (0 : Int) ≤ 2; decide, by show (2 : Int) ≤ 2; decide⟩, ol0, by show (0 : Int) ≤ 0; decide, by show (x.2.2.1.length : Int) + 0 ≤ _; omega⟩
    cases hE : pvE2 g n ((wd g n x.1.1).2.2.2, nmAdd x.1.2.1 (nmO g (wd g n x.1.1).2.2.1 (wd g n x.1.1).2.2.2), x.1.2.2) x.2.1 x.2.2.1 ((2 : Int), ((nmIx x.1.2.1 (nmO g (wd g n x.1.1).2.2.1 (wd g n x.1.1).2.2.2) : Nat) : Int), (x.2.2.1.length : Int), (0 : Int), (wd g n x.1.1).2.2.1, ln) with
    | inl e => rw [hE] at h'; cases h'
    | inr y =>
      rw [hE] at h'
      have key : nmsG y.1.2.1 ∧ x.1.2.1.length ≤ y.1.2.1.length ∧ itsG y.1.2.1.length y.2.1 ∧ (∀ w ∈ y.2.2.1, opGd y.2.1 w) ∧ x.2.2.1.length ≤ y.2.2.1.length ∧ stGd y.1.2.1.length y.2.2.1.length y.2.2.2 := by
        unfold pvE2 at hE
        rw [if_neg d6] at hE
        by_cases e0 : (wd g n (wd g n x.1.1).2.2.2).1 = 0
        · rw [if_pos e0] at hE
          rw [← Sum.inr.inj hE]
          exact ⟨k1, k2, hI.up (by show (x.1.2.1.length : Int) ≤ ((nmAdd x.1.2.1 (nmO g (wd g n x.1.1).2.2.1 (wd g n x.1.1).2.2.2)).length : Int); omega), hO, Nat.le_refl _, hs0⟩
        · rw [if_neg e0] at hE
          have := pvOps_gd hb _ ((wd g n x.1.1).2.2.2, nmAdd x.1.2.1 (nmO g (wd g n x.1.1).2.2.1 (wd g n x.1.1).2.2.2), x.1.2.2) x.2.1 x.2.2.1 ((2 : Int), ((nmIx x.1.2.1 (nmO g (wd g n x.1.1).2.2.1 (wd g n x.1.1).2.2.2) : Nat) : Int), (x.2.2.1.length : Int), (0 : Int), (wd g n x.1.1).2.2.1, ln) y (Nat.le_refl _) h0 h7.2.1 h2 k1 (hI.up (by show (x.1.2.1.length : Int) ≤ ((nmAdd x.1.2.1 (nmO g (wd g n x.1.1).2.2.1 (wd g n x.1.1).2.2.2)).length : Int); omega)) hO hs0 hE
          obtain ⟨r1, r2, r3, r4, r5, r6⟩ := this
          have r2' : (nmAdd x.1.2.1 (nmO g (wd g n x.1.1).2.2.1 (wd g n x.1.1).2.2.2)).length ≤ y.1.2.1.length := r2
          exact ⟨r1, by omega, r3, r4, r5, r6⟩
      obtain ⟨r1, r2, r3, r4, r5, r6⟩ := key
      rw [← Sum.inr.inj h']
      refine ⟨r1, r3, r4, fun w hw' => ?_⟩
      rcases List.mem_append.mp hw' with t | t
      · exact (hS w t).up (by show (x.1.2.1.length : Int) ≤ (y.1.2.1.length : Int); omega) (by show (x.2.2.1.length : Int) ≤ (y.2.2.1.length : Int); omega)
      · rw [List.mem_singleton.mp t]; exact r6
theorem pvAll_gd (hb : byG g n) : ∀ (m : Nat) (ln : Int) (x z : pvB), (n + 1 - x.1.1).toNat ≤ m → 0 ≤ x.1.1 → x.1.1 ≤ n → x.1.2.2 ≤ 2000 → bGd x.1.2.1 x.2.1 x.2.2.1 x.2.2.2 → pvAll g n m ln x = .inr z → bGd z.1.2.1 z.2.1 z.2.2.1 z.2.2.2
  | 0, ln, x, z, hm, p0, p1, h2, hx, h => absurd hm (by omega)
  | m + 1, ln, x, z, hm, p0, p1, h2, hx, h => by
    have h' : (match pvLine g n ln (n + 1 - x.1.1).toNat x with
      | .inl e => .inl e
      | .inr z => if (wd g n z.1.1).2.2.1 < n then pvAll g n m (ln + 1) (((wd g n z.1.1).2.2.1 + 1, z.1.2), z.2) else .inr z : fE ⊕ pvB) = .inr z := h
    cases hP : pvLine g n ln (n + 1 - x.1.1).toNat x with
    | inl e => rw [hP] at h'; cases h'
    | inr y =>
      rw [hP] at h'
      have gy := pvLine_gd hb _ x y (Nat.le_refl _) p0 p1 h2 hx hP
      obtain ⟨q1, q2, q3⟩ := (pvLine_fl (ln := ln) hb _ x (Nat.le_refl _) p0 p1 h2).2 y hP
      have hw := wd_in hb (by omega) q2
      by_cases cn : (wd g n y.1.1).2.2.1 < n
      · have h2' : pvAll g n m (ln + 1) (((wd g n y.1.1).2.2.1 + 1, y.1.2), y.2) = .inr z := (if_pos cn).symm.trans h'
        exact pvAll_gd hb m (ln + 1) (((wd g n y.1.1).2.2.1 + 1, y.1.2), y.2) z (by show (n + 1 - ((wd g n y.1.1).2.2.1 + 1)).toNat ≤ m; have := hw.1; omega) (by show 0 ≤ (wd g n y.1.1).2.2.1 + 1; have := hw.1; omega) (by show (wd g n y.1.1).2.2.1 + 1 ≤ n; omega) q3 gy h2'
      · have h2' : (Sum.inr y : fE ⊕ pvB) = .inr z := (if_neg cn).symm.trans h'
        rw [← Sum.inr.inj h2']; exact gy
theorem bGd_0 : bGd [] [] [] [] := ⟨fun _ h => absurd h List.not_mem_nil, fun _ h => absurd h List.not_mem_nil, fun _ h => absurd h List.not_mem_nil, fun _ h => absurd h List.not_mem_nil⟩
end jGood2
