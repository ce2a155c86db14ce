/-! what a read text obeys (pure): words, items *-/
section jGood
variable {g : Int → Int} {n p q r k a c f e b d o v : Int} {W : wR4} {L L1 L2 I P : pI} {st st' : pS} {G : gP} {l : List Int} {NL : List (List Int)}
/-- words: names, locals, digits -/
def wXt (g : Int → Int) (W : wR4) : Prop := (W.1 = 1 → isBg (g W.2.2.1) ∧ ∀ i, W.2.2.1 ≤ i → i < W.2.2.2 → isIn (g i)) ∧ (W.1 = 3 → 0 ≤ W.2.1 ∧ W.2.1 ≤ 19) ∧ (W.1 = 2 → W.2.2.2 = W.2.2.1 + 1 → 0 ≤ W.2.1 ∧ W.2.1 ≤ 9)
theorem wXt.no (h : ¬ (W.1 = 1 ∨ W.1 = 2 ∨ W.1 = 3)) : wXt g W := ⟨fun z => absurd (.inl z) h, fun z => absurd (.inr (.inr z)) h, fun z => absurd (.inr (.inl z)) h⟩
theorem wdG_xt (hb : byG g n) (r0 : 0 ≤ r) (h10 : f = r → e = 10 ∧ isDg (bt g n r)) (fr : f = r ∨ f = r + 2) (f1 : f ≤ n) (he : e ≤ 16) : wXt g (wdG g n r f e) := by
  obtain ⟨⟨s1, s2, s3⟩, s4⟩ := up_to (g := g) (n := n) (P := fun c => hxO c < e) (p := f) (by have : hxO (-1) = 16 := rfl; omega) f1
  unfold wdG
  generalize up g n (fun c => hxO c < e) f = q1 at *
  split
  · exact wXt.no (by show ¬ ((6 : Int) = 1 ∨ (6 : Int) = 2 ∨ (6 : Int) = 3); decide)
  · rename_i z
    refine ⟨fun z => absurd z (show ¬ (2 : Int) = 1 by decide), fun z => absurd z (show ¬ (2 : Int) = 3 by decide), fun _ hq => ?_⟩
    have hq' : q1 = r + 1 := hq
    show 0 ≤ W32 (dgVl g n f e (q1 - f).toNat) ∧ W32 (dgVl g n f e (q1 - f).toNat) ≤ 9
    have hf : f = r := by omega
    obtain ⟨e10, dg⟩ := h10 hf
    subst hf
    rw [hq', show (f + 1 - f).toNat = 1 by omega]
    have ev : dgVl g n f e 1 = hxO (bt g n f) := by
      show (if 4294967295 < (0 : Int) then (0 : Int) else 0 * e + hxO (bt g n (f + (0 : Nat)))) = _
      rw [if_neg (by decide)]; simp
    have hx : 0 ≤ hxO (bt g n f) ∧ hxO (bt g n f) ≤ 9 := by unfold isDg at dg; unfold hxO; rw [if_pos dg]; omega
    rw [ev, W32_in (by omega) (by omega)]; exact hx
theorem wd1_xt (hb : byG g n) (r0 : 0 ≤ r) (r1 : r ≤ n) : wXt g (wd1 g n r) := by
  unfold wd1
  by_cases c0 : bt g n r = 10 ∨ bt g n r = -1
  · rw [if_pos c0]; exact wXt.no (by show ¬ ((0 : Int) = 1 ∨ (0 : Int) = 2 ∨ (0 : Int) = 3); decide)
  rw [if_neg c0]
  have rn : r < n := bt_ne hb r0 (fun z => c0 (.inr z))
  by_cases c1 : isBg (bt g n r)
  · rw [cif_pos c1]
    obtain ⟨⟨s1, s2, s3⟩, s4⟩ := up_to (g := g) (n := n) (P := isIn) (p := r) (by unfold isIn isBg isDg; omega) r1
    unfold wdI
    generalize up g n isIn r = q1 at *
    split
    · exact wXt.no (by show ¬ ((6 : Int) = 1 ∨ (6 : Int) = 2 ∨ (6 : Int) = 3); decide)
    split
    · exact wXt.no (by show ¬ ((7 : Int) = 1 ∨ (7 : Int) = 2 ∨ (7 : Int) = 3); decide)
    · refine ⟨fun _ => ⟨by rw [bt_in rn] at c1; exact c1, fun i i0 i1 => ?_⟩, fun z => absurd z (show ¬ (1 : Int) = 3 by decide), fun z => absurd z (show ¬ (1 : Int) = 2 by decide)⟩
      have i0' : r ≤ i := i0
      have i1' : i < q1 := i1
      have := s2 i i0' i1'
      rw [bt_in (by omega)] at this; exact this
  rw [cif_neg c1]
  by_cases c2 : isDg (bt g n r)
  · rw [cif_pos c2]
    have b2 := (bt_lo (k := r + 1) hb (by omega)).2.2
    have b3 := (bt_lo (k := r + 2) hb (by omega)).2.2
    unfold wdN
    split
    · exact wdG_xt hb r0 (fun z => by omega) (.inr rfl) (by omega) (by decide)
    split
    · exact wdG_xt hb r0 (fun z => by omega) (.inr rfl) (by omega) (by decide)
    by_cases c3 : (bt g n (r + 1) = 98 ∨ bt g n (r + 1) = 102) ∧ ¬ isIn (bt g n (r + 2))
    · rw [cif_pos c3]
      refine ⟨fun z => absurd z (show ¬ (3 : Int) = 1 by decide), fun _ => ?_, fun z => absurd z (show ¬ (3 : Int) = 2 by decide)⟩
      show 0 ≤ 2 * (bt g n r - 48) + (if bt g n (r + 1) = 102 then 1 else 0) ∧ 2 * (bt g n r - 48) + (if bt g n (r + 1) = 102 then 1 else 0) ≤ 19
      unfold isDg at c2
      split <;> omega
    · rw [cif_neg c3]; exact wdG_xt hb r0 (fun _ => ⟨rfl, c2⟩) (.inl rfl) (by omega) (by decide)
  rw [cif_neg c2]
  split
  · unfold wdC
    by_cases c3 : inOK g n (r + 1) 39 ∧ bt g n (inT g n (r + 1)) = 39
    · rw [cif_pos c3]
      have t0 : r + 1 < inT g n (r + 1) := by unfold inT; split <;> omega
      exact ⟨fun z => absurd z (show ¬ (2 : Int) = 1 by decide), fun z => absurd z (show ¬ (2 : Int) = 3 by decide), fun _ z => by have z' : inT g n (r + 1) + 1 = r + 1 := z; omega⟩
    · rw [cif_neg c3]; exact wXt.no (by show ¬ ((6 : Int) = 1 ∨ (6 : Int) = 2 ∨ (6 : Int) = 3); decide)
  split
  · unfold wdS
    split
    · exact wXt.no (by show ¬ ((4 : Int) = 1 ∨ (4 : Int) = 2 ∨ (4 : Int) = 3); decide)
    · exact wXt.no (by show ¬ ((6 : Int) = 1 ∨ (6 : Int) = 2 ∨ (6 : Int) = 3); decide)
  · unfold wdY
    split
    · exact wXt.no (by show ¬ ((5 : Int) = 1 ∨ (5 : Int) = 2 ∨ (5 : Int) = 3); decide)
    · by_cases c3 : sgOK (bt g n r)
      · rw [cif_pos c3]; exact wXt.no (by show ¬ ((5 : Int) = 1 ∨ (5 : Int) = 2 ∨ (5 : Int) = 3); decide)
      · rw [cif_neg c3]; exact wXt.no (by show ¬ ((6 : Int) = 1 ∨ (6 : Int) = 2 ∨ (6 : Int) = 3); decide)
theorem wd_xt (hb : byG g n) (p0 : 0 ≤ p) (p1 : p ≤ n) : wXt g (wd g n p) := by
  obtain ⟨⟨s1, s2, s3⟩, s4⟩ := up_to (g := g) (n := n) (P := spP) (by unfold spP; omega) p1
  unfold wd
  generalize up g n spP p = q0 at *
  by_cases c : bt g n q0 = 35
  · rw [if_pos c]
    obtain ⟨⟨d1, d2, d3⟩, d4⟩ := up_to (g := g) (n := n) (P := cmP) (p := q0) (by unfold cmP; omega) s4
    generalize up g n cmP q0 = q1 at *
    split
    · exact wd1_xt hb (by omega) d4
    · exact wXt.no (by show ¬ ((6 : Int) = 1 ∨ (6 : Int) = 2 ∨ (6 : Int) = 3); decide)
  · rw [if_neg c]; exact wd1_xt hb (by omega) s4
/-- a name: some letters, none is 0 -/
def nmGd (l : List Int) : Prop := 1 ≤ l.length ∧ l.length ≤ 16 ∧ ∀ c ∈ l, 36 ≤ c ∧ c ≤ 122
theorem isIn_ch (h : isIn c) : 36 ≤ c ∧ c ≤ 122 := by unfold isIn isBg isDg at h; omega
theorem nmO_gd (hb : byG g n) (p0 : 0 ≤ p) (p1 : p ≤ n) (h : (wd g n p).1 = 1) : nmGd (nmO g (wd g n p).2.2.1 (wd g n p).2.2.2) := by
  have hw := wd_in hb p0 p1
  have h7 := hw.2.2.2.1 (by omega)
  have h16 := hw.2.2.2.2.1 (.inl h)
  have hl := nmO_len (g := g) h7.1
  have hx := (wd_xt hb p0 p1).1 h
  refine ⟨by omega, by omega, fun c hc => ?_⟩
  unfold nmO at hc
  obtain ⟨j, hj, e⟩ := List.mem_map.mp hc
  have hj' := List.mem_range.mp hj
  rw [← e]
  exact isIn_ch (hx.2 _ (by omega) (by omega))
/-- an item; how many values lie ahead as items are gone through -/
def itGd (N : Int) (z : Int × Int) : Prop := (z.1 = 0 ∧ jin z.2) ∨ (z.1 = 1 ∧ 0 ≤ z.2 ∧ z.2 < N) ∨ (z.1 = 2 ∧ 0 ≤ z.2 ∧ z.2 ≤ 19) ∨ z.1 = 3 ∨ (10 ≤ z.1 ∧ z.1 ≤ 21)
def rpW : pI → Int → Int → Prop
  | [], d, e => d = e
  | z :: L, d, e => if z.1 < 10 then rpW L (d + 1) e else if z.1 < 12 then 1 ≤ d ∧ rpW L d e else 2 ≤ d ∧ rpW L (d - 1) e
theorem rpW_app : ∀ {L1 : pI} {d e f : Int}, rpW L1 d e → rpW L2 e f → rpW (L1 ++ L2) d f
  | [], d, e, f, h1, h2 => by have : d = e := h1; rw [this]; exact h2
  | z :: L1, d, e, f, h1, h2 => by
    show (if z.1 < 10 then rpW (L1 ++ L2) (d + 1) f else if z.1 < 12 then 1 ≤ d ∧ rpW (L1 ++ L2) d f else 2 ≤ d ∧ rpW (L1 ++ L2) (d - 1) f)
    have h1' : (if z.1 < 10 then rpW L1 (d + 1) e else if z.1 < 12 then 1 ≤ d ∧ rpW L1 d e else 2 ≤ d ∧ rpW L1 (d - 1) e) := h1
    by_cases c1 : z.1 < 10
    · rw [if_pos c1] at h1' ⊢; exact rpW_app h1' h2
    · rw [if_neg c1] at h1' ⊢
      by_cases c2 : z.1 < 12
      · rw [if_pos c2] at h1' ⊢; exact ⟨h1'.1, rpW_app h1'.2 h2⟩
      · rw [if_neg c2] at h1' ⊢; exact ⟨h1'.1, rpW_app h1'.2 h2⟩
theorem rpW_up : ∀ {L : pI} {d e : Int}, 0 ≤ k → rpW L d e → rpW L (d + k) (e + k)
  | [], d, e, hk, h => by have : d = e := h; show d + k = e + k; omega
  | z :: L, d, e, hk, h => by
    show (if z.1 < 10 then rpW L (d + k + 1) (e + k) else if z.1 < 12 then 1 ≤ d + k ∧ rpW L (d + k) (e + k) else 2 ≤ d + k ∧ rpW L (d + k - 1) (e + k))
    have h' : (if z.1 < 10 then rpW L (d + 1) e else if z.1 < 12 then 1 ≤ d ∧ rpW L d e else 2 ≤ d ∧ rpW L (d - 1) e) := h
    by_cases c1 : z.1 < 10
    · rw [if_pos c1] at h' ⊢; rw [show d + k + 1 = d + 1 + k by omega]; exact rpW_up hk h'
    · rw [if_neg c1] at h' ⊢
      by_cases c2 : z.1 < 12
      · rw [if_pos c2] at h' ⊢; exact ⟨by omega, rpW_up hk h'.2⟩
      · rw [if_neg c2] at h' ⊢; rw [show d + k - 1 = d - 1 + k by omega]; exact ⟨by omega, rpW_up hk h'.2⟩
theorem rpW_leaf (h : o < 10) : rpW [(o, v)] 0 1 := by
  show (if o < 10 then rpW [] (0 + 1) 1 else _)
  rw [if_pos h]; rfl
theorem rpW_un (h : rpW L 0 1) (h1 : 10 ≤ o) (h2 : o < 12) : rpW (L ++ [(o, v)]) 0 1 := by
  refine rpW_app h ?_
  show (if o < 10 then rpW [] (1 + 1) 1 else if o < 12 then (1 : Int) ≤ 1 ∧ rpW [] 1 1 else _)
  rw [if_neg (by omega), if_pos h2]; exact ⟨by decide, rfl⟩
theorem rpW_bi (h : rpW L 0 1) (h' : rpW L1 0 1) (h1 : 12 ≤ o) : rpW (L ++ L1 ++ [(o, v)]) 0 1 := by
  refine rpW_app (rpW_app h (rpW_up (k := 1) (by decide) h')) ?_
  show (if o < 10 then rpW [] (0 + 1 + 1 + 1) 1 else if o < 12 then (1 : Int) ≤ 0 + 1 + 1 ∧ rpW [] (1 + 1) 1 else (2 : Int) ≤ 0 + 1 + 1 ∧ rpW [] (0 + 1 + 1 - 1) 1)
  rw [if_neg (by omega), if_neg (by omega)]; exact ⟨by decide, rfl⟩
theorem itGd.up {N N' : Int} {z : Int × Int} (h : itGd N z) (hN : N ≤ N') : itGd N' z := by
  unfold itGd at *
  rcases h with h | h | h
  · exact .inl h
  · exact .inr (.inl (by omega))
  · exact .inr (.inr h)
def itsG (N : Int) (L : pI) : Prop := ∀ z ∈ L, itGd N z
theorem itsG.up {N N' : Int} (h : itsG N L) (hN : N ≤ N') : itsG N' L := fun z hz => (h z hz).up hN
theorem itsG.app {N : Int} (h : itsG N L) (h' : itsG N L1) : itsG N (L ++ L1) := fun z hz => by
  rcases List.mem_append.mp hz with q | q
  · exact h z q
  · exact h' z q
theorem itsG.one {N : Int} {z : Int × Int} (h : itGd N z) : itsG N [z] := fun x hx => by rw [List.mem_singleton.mp hx]; exact h
def nmsG (NL : List (List Int)) : Prop := ∀ l ∈ NL, nmGd l
theorem nmAdd_gd (h : nmsG NL) (hl : nmGd l) : nmsG (nmAdd NL l) ∧ NL.length ≤ (nmAdd NL l).length ∧ nmIx NL l < (nmAdd NL l).length := by
  unfold nmAdd
  by_cases c : nmIx NL l < NL.length
  · rw [if_pos c]; exact ⟨h, Nat.le_refl _, c⟩
  · rw [if_neg c]
    have := nmIx_le l NL
    refine ⟨fun x hx => ?_, by rw [List.length_append]; omega, by rw [List.length_append]; show nmIx NL l < NL.length + 1; omega⟩
    rcases List.mem_append.mp hx with q | q
    · exact h x q
    · rw [List.mem_singleton.mp q]; exact hl
/-- what an expression's items obey -/
def gGd (st : pS) (pr : pR) : Prop := match pr with
  | .inl _ => True
  | .inr z => nmsG z.1.2.1 ∧ st.2.1.length ≤ z.1.2.1.length ∧ itsG z.1.2.1.length z.2 ∧ rpW z.2 0 1
theorem srO_lo : srO' v = -1 ∨ 12 ≤ srO' v ∧ srO' v ≤ 21 := by unfold srO'; repeat' split <;> omega
theorem mor_gd (hb : byG g n) (ok : ∀ st d l, 0 ≤ st.1 → st.1 ≤ n → gOK n st 0 (G.1 st d l)) (hG : ∀ st d l, 0 ≤ st.1 → st.1 ≤ n → nmsG st.2.1 → gGd st (G.1 st d l)) : ∀ (m : Nat) (L : pI) (st : pS), 0 ≤ st.1 → st.1 ≤ n → nmsG st.2.1 → itsG st.2.1.length L → rpW L 0 1 → gGd st (morN g n G d b m L st)
  | 0, L, st, p0, p1, hN, hI, hL => trivial
  | m + 1, L, st, p0, p1, hN, hI, hL => by
    have hw := wd_in hb p0 p1
    unfold morN
    by_cases c6 : (wd g n st.1).1 = 6
    · rw [if_pos c6]; trivial
    rw [if_neg c6]
    by_cases c1 : opO (wd g n st.1) = -1 ∨ bnO (opO (wd g n st.1)) < b
    · rw [if_pos c1]; exact ⟨hN, Nat.le_refl _, hI, hL⟩
    rw [if_neg c1]
    by_cases c2 : st.2.2.1 = 2000 ∨ st.2.2.2 = 60
    · rw [if_pos c2]; trivial
    rw [if_neg c2]
    have h7 := hw.2.2.2.1 c6
    have ho : 12 ≤ opO (wd g n st.1) ∧ opO (wd g n st.1) ≤ 21 := by
      have : ¬ opO (wd g n st.1) = -1 := fun z => c1 (.inl z)
      unfold opO at this ⊢
      split at this
      · rename_i h5; rw [if_pos h5]; have := srO_lo (v := (wd g n st.1).2.1); omega
      · exact absurd rfl this
    have e1 := ok ((wd g n st.1).2.2.2, st.2.1, st.2.2.1 + 1, st.2.2.2 + 1) d (bnO (opO (wd g n st.1)) + 1) (by show 0 ≤ (wd g n st.1).2.2.2; have := hw.1; omega) h7.2.1
    have e2 := hG ((wd g n st.1).2.2.2, st.2.1, st.2.2.1 + 1, st.2.2.2 + 1) d (bnO (opO (wd g n st.1)) + 1) (by show 0 ≤ (wd g n st.1).2.2.2; have := hw.1; omega) h7.2.1 hN
    cases hR : G.1 ((wd g n st.1).2.2.2, st.2.1, st.2.2.1 + 1, st.2.2.2 + 1) d (bnO (opO (wd g n st.1)) + 1) with
    | inl z => trivial
    | inr z =>
      rw [hR] at e1 e2
      obtain ⟨n1, n2, n3, n4⟩ := e2
      have n2' : st.2.1.length ≤ z.1.2.1.length := n2
      have k1 := e1.1
      have k1' : (wd g n st.1).2.2.2 ≤ z.1.1 := k1
      have hI' : itsG z.1.2.1.length (L ++ z.2 ++ [(opO (wd g n st.1), 0)]) := ((hI.up (by omega)).app n3).app (itsG.one (by unfold itGd; omega))
      have f := mor_gd hb ok hG m (L ++ z.2 ++ [(opO (wd g n st.1), 0)]) z.1 (by have := hw.1; omega) e1.2.1 n1 hI' (rpW_bi hL n4 ho.1)
      show gGd st (morN g n G d b m (L ++ z.2 ++ [(opO (wd g n st.1), 0)]) z.1)
      cases hM : morN g n G d b m (L ++ z.2 ++ [(opO (wd g n st.1), 0)]) z.1 with
      | inl _ => trivial
      | inr y => rw [hM] at f; exact ⟨f.1, by have := f.2.1; omega, f.2.2⟩
end jGood
