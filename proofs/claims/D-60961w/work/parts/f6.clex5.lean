/-! the component reads words: names; a word is looked at -/
section jClex5
variable {s t u w v' : jS} {R x b a a' n p q r k c f v y e P Q lo : Int} {g : Int → Int} {S S' : Int → Prop} {l m : List Int}
theorem nmO_s (h : f ≤ k) : nmO g f (k + 1) = nmO g f k ++ [g k] := by
  unfold nmO
  rw [show (k + 1 - f).toNat = (k - f).toNat + 1 by omega, List.range_succ, List.map_append]
  show _ ++ [g (f + ((k - f).toNat : Nat))] = _
  rw [show f + (((k - f).toNat : Nat) : Int) = k by omega]
theorem nmO_len (h : f ≤ k) : ((nmO g f k).length : Int) = k - f := by unfold nmO; simp; omega
theorem nmO_0 : nmO g f f = [] := by unfold nmO; rw [show (f - f).toNat = 0 by omega]; rfl
theorem x_name (h : rdI u R x b a g n) (hr : jf u 53 R 2 = r) (r0 : 0 ≤ r) (r1 : r < n) (hc : isBg (bt g n r)) (hB : 0 ≤ jn u ∧ jBd u 2000 900000) : jE (m_X44_name u R) (wdQ u R x b a g n (wdI g n r)) := by
  obtain ⟨hb, n0, n1⟩ := h.2.2.2.2.2.2.2.1
  obtain ⟨⟨s1, s2, s3⟩, s4⟩ := up_to (g := g) (n := n) (P := isIn) (p := r) (by unfold isIn isBg isDg; omega) (by omega)
  unfold wdI
  generalize up g n isIn r = q1 at *
  have sq : r < q1 := by
    by_cases z : q1 = r
    · rw [z] at s3; exact absurd (.inl hc) s3
    · omega
  rw [em_X44_name]; unfold dm_X44_name
  rw [hr, eu_X44_name_5]; unfold du_X44_name_5
  rw [jstep1 (A := jc2 b_X44_name_5) (s := u) (fun k => [R, k]) r q1 s1 (fun k k0 k1 => by
    show b_X44_name_5 u R k = _
    unfold b_X44_name_5
    rw [c_bt h (by omega), Option.bind_some, c_isIn, Option.bind_some, cif_pos (s2 k k0 k1), if_neg (by decide), W32_in (by omega) (by omega)]), jlpW_r (r := u_X44_name_22 u R q1) (by
    show b_X44_name_5 u R q1 = _
    unfold b_X44_name_5
    rw [c_bt h (by omega), Option.bind_some, c_isIn, Option.bind_some, cif_neg s3, if_pos rfl]), eu_X44_name_22]
  unfold du_X44_name_22
  rw [hr, W32_in (z := q1 - r) (by omega) (by omega)]
  by_cases c16 : 16 < q1 - r
  · rw [if_pos c16, if_pos c16, c_thr ⟨hB.1, jBd.le hB.2 (by omega) (by omega)⟩]
    exact jS_end (wdQ.bad (by omega) hB.1)
  rw [if_neg c16, if_neg c16]
  obtain ⟨v0, ev, f0, I0⟩ := rowI.nil h
  have e2 : jf v0.1 53 R 2 = r := by rw [I0.2.2.2.2 2 (by omega)]; exact hr
  rw [ev, Option.bind_some, f0]
  dsimp only [jth]
  rw [if_neg (by decide), e2, eu_X44_name_56]; unfold du_X44_name_56
  refine jS_for (fun j w => rowI u w R x b a g n (nmO g r j)) (fun j => [R, q1, j]) r q1 s1 (by rw [nmO_0]; exact I0) (fun j w j0 j1 I => ?_) (fun w I => ?_)
  · show jE (b_X44_name_56 w R q1 j) _
    unfold b_X44_name_56
    have hg := hb j (by omega) (by omega)
    rw [if_pos j1, c_bt I.1 (by omega), Option.bind_some, bt_in (by omega)]
    obtain ⟨v, ev', I3⟩ := I.put (c := g j) (by rw [nmO_len j0]; omega) hg hB.2
    rw [ev', Option.bind_some, W32_in (by omega) (by omega)]
    exact jS_end ⟨rfl, by rw [nmO_s j0]; exact I3⟩
  show jE (b_X44_name_56 w R q1 q1) _
  unfold b_X44_name_56
  have ln := nmO_len (g := g) s1
  rw [if_neg (by omega)]
  refine jS_inr ?_
  rw [eu_X44_name_81]; unfold du_X44_name_81
  obtain ⟨v, ev', s1', s2', s3', s4', s5, s6, s7⟩ := I.str (by omega) hB.2
  rw [ev', Option.bind_some]
  simp only [jls]
  obtain ⟨t1, t2, ⟨t3, t4⟩, t5⟩ := s2'
  have nx := s1'.nx
  have nyR : ¬ v.2 = R := fun z => by have := s1'.1.2.2; rw [← z, t2] at this; omega
  have nbR : ¬ jF v.1 v.2 0 = R := fun z => by have := s1'.1.2.2; have q := t1.2.2.1.2.2; rw [z] at q; omega
  have K0 : rSl v.1 (jp v.1 53 R 9 v.2) R (fun k => k = 5 ∨ k = 7 ∨ k = 8 ∨ k = 9) := rSl.rfl.jp (.inr (.inr (.inr rfl)))
  have hp := t1.keep K0.gw (fun z => nyR z) (fun z => nbR z)
  have hF0 : ∀ j, jF (jp v.1 53 R 9 v.2) v.2 j = jF v.1 v.2 j := fun j => K0.gw.F t1.1.2.1 (fun z => nyR z) j
  have I1 := s1'.sl K0 (by omega)
  rw [jf_pos ⟨rfl, rfl, rfl⟩]
  refine jS_call (x_register hp.1 (by show jK v.1 v.2 = 9; exact t2) ⟨by rw [hF0]; exact t3, by rw [hF0]; exact t4⟩ I1.2.2.2.2.2.2.2.2.2.2 (by omega)) fun z ⟨z1, z2, z3⟩ => ?_
  rw [x_is, Option.bind_some, z1]
  have K1 : rSl z.1 (jp (jp (jp z.1 53 R 5 1) 53 R 7 (rgO (nmO g r q1))) 53 R 8 q1) R (fun k => k = 5 ∨ k = 7 ∨ k = 8 ∨ k = 9) := x_isS
  have x5 := s1'.row
  have nxy : ¬ x = v.2 := fun z => by have := x5.2.2.1; rw [z, t2] at this; omega
  have nay : ¬ jf v.1 8 x 0 = v.2 := fun z => by have := x5.2.2.2.2.2; rw [z, t2] at this; omega
  have zR : ∀ j, jf z.1 53 R j = jf (jp v.1 53 R 9 v.2) 53 R j := fun j => z2.2.2 _ _ _ (by omega)
  have zx : jf z.1 8 x 0 = jf v.1 8 x 0 := by rw [z2.2.2 _ _ _ (by omega), jf_neg (by omega)]
  have I2 : rdI z.1 R x b a g n := by
    obtain ⟨⟨h1, h2, h3⟩, h4, h5, h6, h7, ⟨h8, h9, h10, h11⟩, h12, h13, ⟨l, hl⟩, h15, h16⟩ := I1
    have K : jK z.1 = jK (jp v.1 53 R 9 v.2) := z2.1.1
    have N : jN z.1 = jN (jp v.1 53 R 9 v.2) := z2.1.2.1
    have nn : jn z.1 = jn (jp v.1 53 R 9 v.2) := z2.1.2.2.1
    have hl2 := hl.keep z2.gw (fun q => nxy q) (fun q => by have q' : jf (jp v.1 53 R 9 v.2) 8 x 0 = v.2 := q; rw [jf_neg (by omega)] at q'; exact nay q')
    exact ⟨⟨h1, by omega, by rw [K]; exact h3⟩, by rw [zR]; exact h4, by rw [zR]; exact h5, by rw [zR]; exact h6, by rw [zR]; exact h7, ⟨h8, by omega, by rw [K]; exact h10, by rw [N]; exact h11⟩, fun j j0 j1 => by rw [z2.2.2 _ _ _ (by omega)]; exact h12 j j0 j1, h13, ⟨l, hl2.1⟩, by rw [hl2.2]; exact h15, h16.keep z2.gw fun y q => by have q' : y = v.2 := q; rw [q']; show jK v.1 v.2 < 3000; rw [t2]; decide⟩
  have p2 := hp.1.hs z2
  have hFz : ∀ j, jF (jp (jp (jp z.1 53 R 5 1) 53 R 7 (rgO (nmO g r q1))) 53 R 8 q1) v.2 j = jF z.1 v.2 j := fun j => K1.gw.F p2.1.2.1 (fun q => nyR q) j
  have kz : jK z.1 v.2 = 9 := by rw [z2.1.1]; show jK v.1 v.2 = 9; exact t2
  have f0z : jF z.1 v.2 0 = jF v.1 v.2 0 := by
    rw [← hF0]
    unfold jF
    rw [kz, show jK (jp v.1 53 R 9 v.2) v.2 = 9 from t2]
    exact z2.2.2 _ _ _ (by omega)
  have p3 := p2.keep K1.gw (fun q => nyR q) (fun q => by have q' : jF z.1 v.2 0 = R := q; rw [f0z] at q'; exact nbR q')
  have ex : jf (jp (jp (jp z.1 53 R 5 1) 53 R 7 (rgO (nmO g r q1))) 53 R 8 q1) 8 x 0 = jf v.1 8 x 0 := by rw [K1.2 _ _ _ (by omega)]; exact zx
  have hs9 : jf (jp (jp (jp z.1 53 R 5 1) 53 R 7 (rgO (nmO g r q1))) 53 R 8 q1) 53 R 9 = v.2 := by
    rw [jf_neg (by omega), jf_neg (by omega), jf_neg (by omega), zR, jf_pos ⟨rfl, rfl, rfl⟩]
  have str : rStr (jp (jp (jp z.1 53 R 5 1) 53 R 7 (rgO (nmO g r q1))) 53 R 8 q1) v.2 (nmO g r q1) x := ⟨p3.1, kz, ⟨by rw [hFz]; exact z3.1, by rw [hFz]; exact z3.2⟩, by rw [hFz, ex, f0z]; exact t5⟩
  have zgw : jGw (jp v.1 53 R 9 v.2) z.1 0 0 (fun a => a = v.2) := z2.gw
  have G : jGw u (jp (jp (jp z.1 53 R 5 1) 53 R 7 (rgO (nmO g r q1))) 53 R 8 q1) (3 * (q1 - r)) (2600 * (q1 - r)) (rdA u R x) := by
    refine (((s5.jp (c := 53) (k := 9) (v := v.2) (.inl (.inl rfl))).trans zgw (C := fun y => rdA u R x y ∨ y = v.2) fun y _ q => q).trans K1.gw (C := rdA u R x) fun y hy q => ?_).mono (by omega) (by omega) fun y _ q => q
    rcases q with (q | q) | q
    · exact q
    · omega
    · exact .inl q
  have ok : ∀ k, k = 1 ∨ k = 7 → wdQ u R x b a g n (k, 0, r, q1) (jp (jp (jp z.1 53 R 5 1) 53 R 7 (rgO (nmO g r q1))) 53 R 8 q1, false, 0) := fun k hk => by
    refine .inr ⟨by show ¬ k = 6; omega, rfl, I2.sl K1 (by omega), ⟨?_, ?_, fun _ => ⟨by rw [hs9]; exact str, by (repeat (first | rw [jf_neg (by omega)] | rw [jf_pos (by omega)] | rw [ou_neg (by omega)] | rw [ou_pos (by omega)]))⟩, fun q => absurd q (by show ¬ k = 4; omega), fun q => absurd q (by show ¬ (k = 2 ∨ k = 3 ∨ k = 5); omega)⟩, ⟨G, by rw [ex]; exact s6, fun j hj => ?_⟩, fun _ => by rw [hs9]; exact s3'⟩
    · show jf _ 53 R 5 = kdO k
      rw [show kdO k = 1 by unfold kdO; split <;> omega]; (repeat (first | rw [jf_neg (by omega)] | rw [jf_pos (by omega)] | rw [ou_neg (by omega)] | rw [ou_pos (by omega)]))
    · show jf _ 53 R 8 = q1
      (repeat (first | rw [jf_neg (by omega)] | rw [jf_pos (by omega)] | rw [ou_neg (by omega)] | rw [ou_pos (by omega)]))
    · rw [K1.2 _ _ _ (fun q => hj q.2.2), zR, K0.2 _ _ _ (fun q => hj q.2.2)]; exact s7 j hj
  by_cases c1 : q1 - r = 1 ∧ bt g n r = 46
  · rw [if_pos c1]; exact jS_end (ok 7 (.inr rfl))
  · rw [if_neg c1]; exact jS_end (ok 1 (.inl rfl))
end jClex5
