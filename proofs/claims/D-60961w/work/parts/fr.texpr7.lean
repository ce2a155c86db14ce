/-! expressions: what the pure reader obeys; the twin's whole expression -/
section jTexpr7
variable {s t u w v' : jS} {U n p p' q r k c f v y e d o z a a' b' pl b : Int} {g : Int → Int} {l m : List Int} {NL : List (List Int)} {W : wR4} {st st' : pS} {I I' E L L1 L2 : pI} {S S' P : List Int} {G : gP}
/-- what a result obeys: place, items, counts -/
def gOK (n : Int) (st : pS) (c : Int) (pr : pR) : Prop := match pr with
  | .inl _ => True
  | .inr z => st.1 ≤ z.1.1 ∧ z.1.1 ≤ n ∧ (z.2.length : Int) = c + (z.1.2.2.2 - st.2.2.2) ∧ z.1.2.2.1 - st.2.2.1 = z.1.2.2.2 - st.2.2.2 ∧ st.2.2.2 ≤ z.1.2.2.2 ∧ (st.2.2.2 ≤ 60 → z.1.2.2.2 ≤ 60) ∧ (st.2.2.1 ≤ 2000 → z.1.2.2.1 ≤ 2000)
theorem gOK.inl {x : Int × Int} : gOK n st c (.inl x) := trivial
theorem gOK.up {pr : pR} (h : gOK n st' e pr) (h1 : st.1 ≤ st'.1) (h2 : st'.2.2.1 - st.2.2.1 = st'.2.2.2 - st.2.2.2) (h3 : st.2.2.2 ≤ st'.2.2.2) (h4 : st.2.2.2 ≤ 60 → st'.2.2.2 ≤ 60) (h5 : st.2.2.1 ≤ 2000 → st'.2.2.1 ≤ 2000) (h6 : e = c + (st'.2.2.2 - st.2.2.2)) : gOK n st c pr := by
  cases pr with
  | inl x => trivial
  | inr z =>
    obtain ⟨a1, a2, a3, a4, a5, a6, a7⟩ := h
    exact ⟨by omega, a2, by omega, by omega, by omega, fun q => a6 (h4 q), fun q => a7 (h5 q)⟩
theorem mor_ok (hb : byG g n) (h1 : ∀ st d l, 0 ≤ st.1 → st.1 ≤ n → gOK n st 0 (G.1 st d l)) : ∀ (m : Nat) (L : pI) (st : pS), 0 ≤ st.1 → st.1 ≤ n → gOK n st L.length (morN g n G d b m L st)
  | 0, L, st, _, _ => trivial
  | m + 1, L, st, p0, p1 => by
    have hw := wd_in hb p0 p1
    unfold morN
    by_cases c6 : (wd g n st.1).1 = 6
    · rw [if_pos c6]; trivial
    rw [if_neg c6]
    by_cases c1 : opO (wd g n st.1) = -1 ∨ bnO (opO (wd g n st.1)) < b
    · rw [if_pos c1]; exact ⟨Int.le_refl _, p1, by show (L.length : Int) = L.length + (st.2.2.2 - st.2.2.2); omega, by show st.2.2.1 - st.2.2.1 = st.2.2.2 - st.2.2.2; omega, Int.le_refl _, id, id⟩
    rw [if_neg c1]
    by_cases c3 : st.2.2.1 = 2000 ∨ st.2.2.2 = 60
    · rw [if_pos c3]; trivial
    rw [if_neg c3]
    have w7 := hw.2.2.2.1 c6
    have h := h1 ((wd g n st.1).2.2.2, st.2.1, st.2.2.1 + 1, st.2.2.2 + 1) d (bnO (opO (wd g n st.1)) + 1) (by show 0 ≤ (wd g n st.1).2.2.2; omega) w7.2.1
    cases hG : G.1 ((wd g n st.1).2.2.2, st.2.1, st.2.2.1 + 1, st.2.2.2 + 1) d (bnO (opO (wd g n st.1)) + 1) with
    | inl z => trivial
    | inr z =>
      rw [hG] at h
      obtain ⟨a1, a2, a3, a4, a5, a6, a7⟩ := h
      have a1 : (wd g n st.1).2.2.2 ≤ z.1.1 := a1
      have a3 : (z.2.length : Int) = 0 + (z.1.2.2.2 - (st.2.2.2 + 1)) := a3
      have a4 : z.1.2.2.1 - (st.2.2.1 + 1) = z.1.2.2.2 - (st.2.2.2 + 1) := a4
      have a5 : st.2.2.2 + 1 ≤ z.1.2.2.2 := a5
      have a6 : st.2.2.2 + 1 ≤ 60 → z.1.2.2.2 ≤ 60 := a6
      have a7 : st.2.2.1 + 1 ≤ 2000 → z.1.2.2.1 ≤ 2000 := a7
      refine (mor_ok hb h1 m (L ++ z.2 ++ [(opO (wd g n st.1), 0)]) z.1 (by omega) a2).up (by omega) (by omega) (by omega) (fun q => a6 (by omega)) (fun q => a7 (by omega)) ?_
      rw [show ((L ++ z.2 ++ [(opO (wd g n st.1), (0 : Int))]).length : Int) = L.length + z.2.length + 1 by simp [Int.add_assoc]]; omega
theorem sgR_ok (hb : byG g n) (h1 : ∀ st d, 0 ≤ st.1 → st.1 ≤ n → gOK n st 0 (G.2.2.1 st d)) (h2 : ∀ st d, 0 ≤ st.1 → st.1 ≤ n → gOK n st 0 (G.2.2.2 st d)) (p0 : 0 ≤ st.1) (p1 : st.1 ≤ n) (c6 : ¬ (wd g n st.1).1 = 6) : gOK n st 0 (sgR g n G st d) := by
  have hw := wd_in hb p0 p1
  have w7 := hw.2.2.2.1 c6
  have q0 : 0 ≤ (wd g n st.1).2.2.2 := by omega
  have one : ∀ {NL : List (List Int)} {x : Int × Int}, ¬ (st.2.2.1 = 2000 ∨ st.2.2.2 = 60) → gOK n st 0 (.inr (((wd g n st.1).2.2.2, NL, st.2.2.1 + 1, st.2.2.2 + 1), [x])) := fun {NL x} h => ⟨by show st.1 ≤ (wd g n st.1).2.2.2; omega, w7.2.1, by show ((1 : Nat) : Int) = 0 + (st.2.2.2 + 1 - st.2.2.2); omega, by show st.2.2.1 + 1 - st.2.2.1 = st.2.2.2 + 1 - st.2.2.2; omega, by show st.2.2.2 ≤ st.2.2.2 + 1; omega, fun q => by show st.2.2.2 + 1 ≤ 60; omega, fun q => by show st.2.2.1 + 1 ≤ 2000; omega⟩
  unfold sgR
  split
  · trivial
  split
  · exact (h2 ((wd g n st.1).2.2.2, st.2) (d + 1) q0 w7.2.1).up (by show st.1 ≤ (wd g n st.1).2.2.2; omega) (by show st.2.2.1 - st.2.2.1 = st.2.2.2 - st.2.2.2; omega) (Int.le_refl _) id id (by show (0 : Int) = 0 + (st.2.2.2 - st.2.2.2); omega)
  split
  · trivial
  rename_i c3
  split
  · have h := h1 ((wd g n st.1).2.2.2, st.2.1, st.2.2.1 + 1, st.2.2.2 + 1) (d + 1) q0 w7.2.1
    cases hG : G.2.2.1 ((wd g n st.1).2.2.2, st.2.1, st.2.2.1 + 1, st.2.2.2 + 1) (d + 1) with
    | inl z => trivial
    | inr z =>
      rw [hG] at h
      obtain ⟨a1, a2, a3, a4, a5, a6, a7⟩ := h
      have a1 : (wd g n st.1).2.2.2 ≤ z.1.1 := a1
      have a3 : (z.2.length : Int) = 0 + (z.1.2.2.2 - (st.2.2.2 + 1)) := a3
      have a4 : z.1.2.2.1 - (st.2.2.1 + 1) = z.1.2.2.2 - (st.2.2.2 + 1) := a4
      have a5 : st.2.2.2 + 1 ≤ z.1.2.2.2 := a5
      have a6 : st.2.2.2 + 1 ≤ 60 → z.1.2.2.2 ≤ 60 := a6
      have a7 : st.2.2.1 + 1 ≤ 2000 → z.1.2.2.1 ≤ 2000 := a7
      have ll : ∀ x : Int × Int, ((z.2 ++ [x]).length : Int) = z.2.length + 1 := fun x => by simp
      exact ⟨by show st.1 ≤ z.1.1; omega, a2, by show ((z.2 ++ [_]).length : Int) = _; rw [ll]; show _ = 0 + (z.1.2.2.2 - st.2.2.2); omega, by show z.1.2.2.1 - st.2.2.1 = z.1.2.2.2 - st.2.2.2; omega, by show st.2.2.2 ≤ z.1.2.2.2; omega, fun q => a6 (by omega), fun q => a7 (by omega)⟩
  split
  · split
    · trivial
    · exact one c3
  · exact one c3
theorem gp_ok (hb : byG g n) : ∀ (k : Nat) (st : pS), 0 ≤ st.1 → st.1 ≤ n → (∀ d l, gOK n st 0 ((gp g n k).1 st d l)) ∧ (∀ L d l, gOK n st L.length ((gp g n k).2.1 L st d l)) ∧ (∀ d, gOK n st 0 ((gp g n k).2.2.1 st d)) ∧ (∀ d, gOK n st 0 ((gp g n k).2.2.2 st d))
  | 0, _, _, _ => ⟨fun _ _ => trivial, fun _ _ _ => trivial, fun _ => trivial, fun _ => trivial⟩
  | k + 1, st, p0, p1 => by
    have ih := gp_ok hb k
    refine ⟨fun d l => ?_, fun L d l => mor_ok hb (fun st d l q0 q1 => (ih st q0 q1).1 d l) _ L st p0 p1, fun d => ?_, fun d => ?_⟩
    · show gOK n st 0 (sumF (gp g n k) st d l)
      unfold sumF
      have h := (ih st p0 p1).2.2.1 d
      cases hG : (gp g n k).2.2.1 st d with
      | inl z => trivial
      | inr z =>
        rw [hG] at h
        obtain ⟨a1, a2, a3, a4, a5, a6, a7⟩ := h
        exact ((ih z.1 (by omega) a2).2.1 z.2 d l).up a1 a4 a5 a6 a7 a3
    · show gOK n st 0 (sglF g n (gp g n k) st d)
      rw [sglF_eq]
      split
      · trivial
      rename_i c6
      split
      · trivial
      split
      · trivial
      · exact sgR_ok hb (fun st d q0 q1 => (ih st q0 q1).2.2.1 d) (fun st d q0 q1 => (ih st q0 q1).2.2.2 d) p0 p1 c6
    · show gOK n st 0 (inBrF g n (gp g n k) st d)
      unfold inBrF
      have h := (ih st p0 p1).1 d 1
      cases hG : (gp g n k).1 st d 1 with
      | inl z => trivial
      | inr z =>
        rw [hG] at h
        obtain ⟨a1, a2, a3, a4, a5, a6, a7⟩ := h
        show gOK n st 0 (if (wd g n z.1.1).1 = 6 then .inl ((wd g n z.1.1).2.1, (wd g n z.1.1).2.2.1) else if (wd g n z.1.1).1 = 5 ∧ (wd g n z.1.1).2.1 = 41 then .inr (((wd g n z.1.1).2.2.2, z.1.2), z.2) else .inl (5, (wd g n z.1.1).2.2.1))
        have hw := wd_in hb (p := z.1.1) (by omega) a2
        split
        · trivial
        rename_i c6
        have w7 := hw.2.2.2.1 c6
        split
        · exact ⟨by show st.1 ≤ (wd g n z.1.1).2.2.2; omega, w7.2.1, a3, a4, a5, a6, a7⟩
        · trivial
/-- more fuel changes nothing -/
theorem mor_cg {G' : gP} (h : ∀ st j, b < j → j ≤ 7 → G.1 st d j = G'.1 st d j) : ∀ (m : Nat) (L : pI) (st : pS), morN g n G d b m L st = morN g n G' d b m L st
  | 0, _, _ => rfl
  | m + 1, L, st => by
    unfold morN
    split
    · rfl
    split
    · rfl
    rename_i c1
    split
    · rfl
    have bl := bnO_lo (o := opO (wd g n st.1))
    rw [h _ _ (by omega) (by omega)]
    split
    · rfl
    · exact mor_cg h m _ _
theorem gp_fuel : ∀ (k : Nat) (d : Int), 1 ≤ d → d ≤ 21 →
    (∀ l, 1 ≤ l → l ≤ 7 → 2 + 15 * (21 - d) + 2 * (7 - l) ≤ k → ∀ st, (gp g n (k + 1)).1 st d l = (gp g n k).1 st d l) ∧
    (∀ l, 1 ≤ l → l ≤ 7 → 1 + 15 * (21 - d) + 2 * (7 - l) ≤ k → ∀ L st, (gp g n (k + 1)).2.1 L st d l = (gp g n k).2.1 L st d l) ∧
    (1 + 15 * (21 - d) ≤ k → ∀ st, (gp g n (k + 1)).2.2.1 st d = (gp g n k).2.2.1 st d) ∧
    (15 + 15 * (21 - d) ≤ k → ∀ st, (gp g n (k + 1)).2.2.2 st d = (gp g n k).2.2.2 st d)
  | 0, d, d1, d2 => ⟨fun l _ _ h => absurd h (by omega), fun l _ _ h => absurd h (by omega), fun h => absurd h (by omega), fun h => absurd h (by omega)⟩
  | k + 1, d, d1, d2 => by
    have ih := gp_fuel k d d1 d2
    refine ⟨fun l l1 l7 h st => ?_, fun l l1 l7 h L st => ?_, fun h st => ?_, fun h st => ?_⟩
    · show sumF (gp g n (k + 1)) st d l = sumF (gp g n k) st d l
      unfold sumF
      rw [ih.2.2.1 (by omega)]
      split
      · rfl
      · exact ih.2.1 l l1 l7 (by omega) _ _
    · exact mor_cg (fun st j h1 h2 => ih.1 j (by omega) h2 (by omega) st) _ _ _
    · show sglF g n (gp g n (k + 1)) st d = sglF g n (gp g n k) st d
      rw [sglF_eq, sglF_eq]
      split
      · rfl
      split
      · rfl
      split
      · rfl
      unfold sgR
      split
      · rfl
      rename_i c20
      have ih' := gp_fuel k (d + 1) (by omega) (by omega)
      rw [ih'.2.2.1 (by omega), ih'.2.2.2 (by omega)]
    · show inBrF g n (gp g n (k + 1)) st d = inBrF g n (gp g n k) st d
      unfold inBrF
      rw [ih.1 1 (by omega) (by omega) (by omega)]
end jTexpr7
