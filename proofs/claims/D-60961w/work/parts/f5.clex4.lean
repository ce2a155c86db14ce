/-! the component reads words: strings, names; a word is looked at -/
section jClex4
variable {s t u w v' : jS} {R x b a a' n p q r k c f v y e P Q lo : Int} {g : Int → Int} {S S' : Int → Prop} {l m : List Int}
theorem rdI.nx (h : rdI u R x b a g n) : ¬ x = R := fun z => by obtain ⟨l, hl⟩ := h.2.2.2.2.2.2.2.2.1; have := hl.1.2.2; rw [z] at this; have := h.1.2.2; omega
theorem rdI.row (h : rdI u R x b a g n) : 0 ≤ x ∧ x < jn u ∧ jK u x = 8 ∧ 0 ≤ jf u 8 x 0 ∧ jf u 8 x 0 < jn u ∧ jK u (jf u 8 x 0) = 1001 := by
  obtain ⟨l, hl⟩ := h.2.2.2.2.2.2.2.2.1
  exact ⟨hl.1.1, hl.1.2.1, hl.1.2.2, hl.2.2.2.1⟩
/-- the row alone changes -/
theorem rdI.bd (h : rdI s R x b a g n) (k : jGw s t P Q (fun y => y = x ∨ y = jf s 8 x 0)) (hl : pSb t x l 640) (ha : jf t 8 x 0 = jf s 8 x 0 ∨ jn s ≤ jf t 8 x 0) : rdI t R x b a g n := by
  have nx := h.nx
  obtain ⟨x0, x1, x2, x3, x4, x5⟩ := h.row
  obtain ⟨⟨h1, h2, h3⟩, h4, h5, h6, h7, ⟨h8, h9, h10, h11⟩, h12, h13, -, h15, h16⟩ := h
  have nR : ¬ R = jf s 8 x 0 := fun z => by rw [z] at h3; omega
  have fR : ∀ j, jf t 53 R j = jf s 53 R j := fun j => k.2.2 _ _ _ h2 (by omega)
  have nn := k.n
  exact ⟨⟨h1, by omega, by rw [k.K h2]; exact h3⟩, by rw [fR]; exact h4, by rw [fR]; exact h5, by rw [fR]; exact h6, by rw [fR]; exact h7, ⟨h8, by omega, by rw [k.K h9]; exact h10, by rw [k.N h9]; exact h11⟩, fun j j0 j1 => by rw [k.2.2 _ _ _ h9 (fun z => z.elim (fun z => by rw [z] at h10; omega) (fun z => h15 z.symm))]; exact h12 j j0 j1, h13, ⟨l, hl⟩, by omega, h16.keep k fun y z => by rcases z with z | z <;> rw [z] <;> omega⟩
/-- letters come to the row, one by one -/
def rowI (u v : jS) (R x b a : Int) (g : Int → Int) (n : Int) (l : List Int) : Prop := rdI v R x b a g n ∧ pSb v x l 640 ∧ jGw u v l.length (1282 * l.length) (rdA u R x) ∧ (jf v 8 x 0 = jf u 8 x 0 ∨ jn u ≤ jf v 8 x 0) ∧ ∀ k, ¬ (k = 5 ∨ k = 7 ∨ k = 8 ∨ k = 9) → jf v 53 R k = jf u 53 R k
theorem rowI.put (h : rowI u w R x b a g n l) (hl : (l.length : Int) < 640) (hc : 0 ≤ c ∧ c < 256) (hB : jBd u 2000 900000) : ∃ v, (jct w 24 (jf w 53 R 11) (m_J1_append_3 w (jf w 53 R 11) (Wc c))) = some v ∧ rowI u v.1 R x b a g n (l ++ [c]) := by
  obtain ⟨h1, h2, h3, h4, h5⟩ := h
  have hx : jf w 53 R 11 = x := h1.2.2.2.2.1
  have hB2 : jBd w 1 (2 * 640 + 2) := (jBd.gw (p' := 1) (q' := 2 * 640 + 2) (jBd.le hB (by omega) (by omega)) h3)
  obtain ⟨v, ev, e1, e2, e3, e4⟩ := s_putc h2 (by omega) (by omega) hc hB2
  refine ⟨v, by rw [hx, jct_in h2.tt, Wc_in hc.1 (by omega)]; exact ev, h1.bd e3 e2 e4, e2, ?_, ?_, fun k hk => ?_⟩
  · have el : ((l ++ [c]).length : Int) = l.length + 1 := by simp
    refine (h3.trans e3 (C := rdA u R x) fun y hy z => ?_).mono (by omega) (by omega) fun y _ z => z
    rcases z with z | z
    · exact z
    · rcases z with z | z
      · exact .inr (.inl z)
      · rcases h4 with q | q
        · exact .inr (.inr (z.trans q))
        · omega
  · have := h3.n
    rcases e4 with q | q
    · rw [q]; exact h4
    · exact .inr (by omega)
  · rw [← h5 k hk]
    have nx := h1.nx
    obtain ⟨x0, x1, x2, x3, x4, x5⟩ := h1.row
    exact e3.2.2 _ _ _ h1.1.2.1 (fun z => by
      rcases z with z | z
      · exact nx z.symm
      · have := h1.1.2.2; rw [z] at this; omega)
theorem rowI.nil (h : rdI u R x b a g n) : ∃ v, (jct u 24 (jf u 53 R 11) (m_J1_setLength u (jf u 53 R 11) 0)) = some v ∧ v.2.1 = false ∧ rowI u v.1 R x b a g n [] := by
  have hx : jf u 53 R 11 = x := h.2.2.2.2.1
  obtain ⟨l, hl⟩ := h.2.2.2.2.2.2.2.2.1
  obtain ⟨v, ev, e1, e2, e3, e4⟩ := s_empty hl (by omega)
  have nx := h.nx
  refine ⟨v, by rw [hx, jct_in hl.tt]; exact ev, e1, h.bd (e3.mono (Int.le_refl _) (Int.le_refl _) fun y _ z => .inl z) e2 (.inl e4), e2, e3.mono (by simp) (by simp) fun y _ z => .inr (.inl z), .inl e4, fun k _ => e3.2.2 _ _ _ h.1.2.1 fun z => nx z.symm⟩
/-- the row becomes a string -/
theorem rowI.str (h : rowI u w R x b a g n l) (hl : (l.length : Int) ≤ 640) (hB : jBd u 2000 900000) : ∃ v, (jct w 24 (jf w 53 R 11) (m_J1_toString w (jf w 53 R 11))) = some v ∧ rdI v.1 R x b a g n ∧ rStr v.1 v.2 l x ∧ jn u ≤ v.2 ∧ v.2 < jn v.1 ∧ jGw u v.1 (l.length + 2) (1282 * l.length + 1286) (rdA u R x) ∧ (jf v.1 8 x 0 = jf u 8 x 0 ∨ jn u ≤ jf v.1 8 x 0) ∧ ∀ k, ¬ (k = 5 ∨ k = 7 ∨ k = 8 ∨ k = 9) → jf v.1 53 R k = jf u 53 R k := by
  obtain ⟨h1, h2, h3, h4, h5⟩ := h
  have hx : jf w 53 R 11 = x := h1.2.2.2.2.1
  have hB2 : jBd w 2 (2 * 640 + 6) := (jBd.gw (p' := 2) (q' := 2 * 640 + 6) (jBd.le hB (by omega) (by omega)) h3)
  obtain ⟨v, ev, e1, e2, e3, e4, e5, e6, e7⟩ := s_toString h2 (by omega) hB2
  obtain ⟨x0, x1, x2, x3, x4, x5⟩ := h1.row
  have n3 := h3.n
  have hb := h2.keep e7 (fun z => z) (fun z => z)
  have hF : ∀ j, jF v.1 v.2 j = jf v.1 9 v.2 j := fun j => by unfold jF; rw [e3]
  refine ⟨v, by rw [hx, jct_in h2.tt]; exact ev, h1.bd (e7.mono (Int.le_refl _) (Int.le_refl _) fun y _ z => z.elim) hb.1 (.inl hb.2), ⟨e1, e3, ⟨.inl (by rw [hF]; exact e4), .inl (by rw [hF]; exact e5)⟩, by rw [hb.2]; omega⟩, by omega, e1.1.2.1, (h3.trans e7 (C := rdA u R x) fun y _ z => z.elim id fun z => z.elim).mono (by omega) (by omega) fun y _ z => z, by rw [hb.2]; exact h4, fun k hk => ?_⟩
  rw [← h5 k hk]
  exact e7.2.2 _ _ _ h1.1.2.1 fun z => z
theorem stB_s {j : Nat} : (List.range (j + 1)).map (fun i => inV g n (stQ g n r i)) = (List.range j).map (fun i => inV g n (stQ g n r i)) ++ [inV g n (stQ g n r j)] := by
  rw [List.range_succ, List.map_append]; rfl
theorem x_string (h : rdI u R x b a g n) (hr : jf u 53 R 2 = r) (r0 : 0 ≤ r) (r1 : r < n) (hB : 0 ≤ jn u ∧ jBd u 2000 900000) : jE (m_X44_string u R) (wdQ u R x b a g n (wdS g n r)) := by
  obtain ⟨hb, n0, n1⟩ := h.2.2.2.2.2.2.2.1
  obtain ⟨m1, m2⟩ := stM_end (r := r) hb r0
  rw [em_X44_string]; unfold dm_X44_string wdS
  obtain ⟨v0, ev, f0, I0⟩ := rowI.nil h
  have e2 : jf v0.1 53 R 2 = r := by rw [I0.2.2.2.2 2 (by omega)]; exact hr
  rw [ev, Option.bind_some, f0]
  simp only [jlet]
  dsimp only [jth]
  rw [if_neg (by decide), e2, W32_in (by omega) (by omega), eu_X44_string_15]; unfold du_X44_string_15
  have hq : ∀ j : Nat, j ≤ stM g n r → stQ g n r j ≤ n + 0 ∨ j = 0 := fun j hj => by
    cases j with
    | zero => exact .inr rfl
    | succ j =>
      have lo := stQ_lo (g := g) (n := n) (r := r) j
      have := inOK_in hb (by omega) (m1 j (by omega)).2
      exact .inl (by show inT g n (stQ g n r j) ≤ n + 0; omega)
  have hq' : ∀ j : Nat, j ≤ stM g n r → stQ g n r j ≤ n := fun j hj => by
    rcases hq j hj with z | z
    · omega
    · rw [z]; show r + 1 ≤ n; omega
  refine jS_for (fun j w => rowI u w R x b a g n ((List.range j.toNat).map (fun i => inV g n (stQ g n r i)))) (fun j => [R, stQ g n r j.toNat]) 0 (stM g n r) (by omega) I0 (fun j w j0 j1 I => ?_) (fun w I => ?_)
  · show jE (b_X44_string_15 w R (stQ g n r j.toNat)) _
    unfold b_X44_string_15
    have lo := stQ_lo (g := g) (n := n) (r := r) j.toNat
    have hi := hq' j.toNat (by omega)
    have gg := m1 j.toNat (by omega)
    have gi := inOK_in hb (by omega) gg.2
    rw [c_bt I.1 (by omega), Option.bind_some, if_neg gg.1]
    obtain ⟨z, ⟨e1, -, e3⟩ | ⟨e1, e2⟩⟩ := x_inside (a' := 34) (k := stQ g n r j.toNat) I.1 (by omega) (by omega)
    rotate_left
    · exact absurd gg.2 e2
    subst e3
    have K : rSl w (jp w 53 R 7 (inV g n (stQ g n r j.toNat))) R (fun k => k = 7) := rSl.rfl.jp rfl
    have I2 : rowI u (jp w 53 R 7 (inV g n (stQ g n r j.toNat))) R x b a g n ((List.range j.toNat).map (fun i => inV g n (stQ g n r i))) := by
      obtain ⟨i1, i2, i3, i4, i5⟩ := I
      have nx := i1.nx
      have ex : jf (jp w 53 R 7 (inV g n (stQ g n r j.toNat))) 8 x 0 = jf w 8 x 0 := jf_neg (by omega)
      obtain ⟨x0, x1, x2, x3, x4, x5⟩ := i1.row
      exact ⟨i1.sl K (by omega), (i2.keep K.gw (fun z => nx z) (fun z => by have z' : jf w 8 x 0 = R := z; have := i1.1.2.2; rw [z'] at x5; omega)).1, i3.jp (.inl (.inl rfl)), by rw [ex]; exact i4, fun k hk => by rw [jf_neg (by omega)]; exact i5 k hk⟩
    have ln : (((List.range j.toNat).map (fun i => inV g n (stQ g n r i))).length : Int) = j := by simp; omega
    rw [e1, Option.bind_some, if_neg (by dsimp only; unfold inT; split <;> omega)]
    dsimp only
    obtain ⟨v, ev', I3⟩ := I2.put (c := inV g n (stQ g n r j.toNat)) (by omega) ⟨gi.2.2.1, by omega⟩ hB.2
    rw [jf_pos ⟨rfl, rfl, rfl⟩, ev', Option.bind_some]
    refine jS_end ⟨?_, ?_⟩
    · rw [show (j + 1).toNat = j.toNat + 1 by omega]; rfl
    · rw [show (j + 1).toNat = j.toNat + 1 by omega, stB_s]; exact I3
  · show jE (b_X44_string_15 w R (stQ g n r (stM g n r : Int).toNat)) _
    unfold b_X44_string_15
    rw [show (stM g n r : Int).toNat = stM g n r by omega] at I ⊢
    have lo := stQ_lo (g := g) (n := n) (r := r) (stM g n r)
    have hi := hq' (stM g n r) (Nat.le_refl _)
    have ln : (((List.range (stM g n r)).map (fun i => inV g n (stQ g n r i))).length : Int) = stM g n r := by simp
    have e2 : jf w 53 R 2 = r := by rw [I.2.2.2.2 2 (by omega)]; exact hr
    rw [c_bt I.1 (by omega), Option.bind_some]
    by_cases c : bt g n (stQ g n r (stM g n r)) = 34
    · rw [if_pos c, if_pos c]
      refine jS_inr ?_
      rw [eu_X44_string_64]; unfold du_X44_string_64
      obtain ⟨v, ev', s1, s2, s3, s4, s5, s6, s7⟩ := I.str (by omega) hB.2
      rw [ev', Option.bind_some]
      simp only [jls]
      rw [W32_in (by omega) (by omega), x_is, Option.bind_some]
      have K : rSl v.1 (jp (jp (jp (jp v.1 53 R 9 v.2) 53 R 5 4) 53 R 7 0) 53 R 8 (stQ g n r (stM g n r) + 1)) R (fun k => k = 5 ∨ k = 7 ∨ k = 8 ∨ k = 9) := ((((rSl.rfl.jp (.inr (.inr (.inr rfl)))).jp (.inl rfl)).jp (.inr (.inl rfl))).jp (.inr (.inr (.inl rfl))))
      have nx := s1.nx
      have hs9 : jf (jp (jp (jp (jp v.1 53 R 9 v.2) 53 R 5 4) 53 R 7 0) 53 R 8 (stQ g n r (stM g n r) + 1)) 53 R 9 = v.2 := by (repeat (first | rw [jf_neg (by omega)] | rw [jf_pos (by omega)] | rw [ou_neg (by omega)] | rw [ou_pos (by omega)]))
      have ex : jf (jp (jp (jp (jp v.1 53 R 9 v.2) 53 R 5 4) 53 R 7 0) 53 R 8 (stQ g n r (stM g n r) + 1)) 8 x 0 = jf v.1 8 x 0 := by (repeat (first | rw [jf_neg (by omega)] | rw [jf_pos (by omega)] | rw [ou_neg (by omega)] | rw [ou_pos (by omega)]))
      obtain ⟨t1, t2, ⟨t3, t4⟩, t5⟩ := s2
      have hp := t1.keep K.gw (fun z => by have z' : v.2 = R := z; have := s1.1.2.2; rw [← z', t2] at this; omega) (fun z => by have z' : jF v.1 v.2 0 = R := z; have := s1.1.2.2; have q := t1.2.2.1.2.2; rw [z'] at q; omega)
      refine jS_end (.inr ⟨by show ¬ (4 : Int) = 6; decide, rfl, s1.sl K (by omega), ⟨?_, ?_, fun z => absurd z (show ¬ ((4 : Int) = 1 ∨ (4 : Int) = 7) by decide), fun _ => ?_, fun z => absurd z (show ¬ ((4 : Int) = 2 ∨ (4 : Int) = 3 ∨ (4 : Int) = 5) by decide)⟩, ⟨?_, by rw [ex]; exact s6, fun k hk => (K.2 _ _ _ (fun z => hk z.2.2)).trans (s7 k hk)⟩, fun _ => by rw [hs9]; exact s3⟩)
      · show _ = kdO 4
        unfold kdO; rw [if_neg (by decide)]; (repeat (first | rw [jf_neg (by omega)] | rw [jf_pos (by omega)] | rw [ou_neg (by omega)] | rw [ou_pos (by omega)]))
      · show _ = stQ g n r (stM g n r) + 1
        (repeat (first | rw [jf_neg (by omega)] | rw [jf_pos (by omega)] | rw [ou_neg (by omega)] | rw [ou_pos (by omega)]))
      · rw [hs9]
        have hF : ∀ j, jF (jp (jp (jp (jp v.1 53 R 9 v.2) 53 R 5 4) 53 R 7 0) 53 R 8 (stQ g n r (stM g n r) + 1)) v.2 j = jF v.1 v.2 j := fun j => K.gw.F t1.1.2.1 (fun z => by have z' : v.2 = R := z; have := s1.1.2.2; rw [← z', t2] at this; omega) j
        exact ⟨hp.1, by show jK v.1 v.2 = 9; exact t2, ⟨by rw [hF]; exact t3, by rw [hF]; exact t4⟩, by rw [hF, ex]; exact t5⟩
      · refine (s5.trans K.gw (C := rdA u R x) fun y _ z => z.elim id fun z => .inl z).mono ?_ ?_ fun y _ z => z
        · show _ ≤ 3 * (stQ g n r (stM g n r) + 1 - r); omega
        · show _ ≤ 2600 * (stQ g n r (stM g n r) + 1 - r); omega
    · rw [if_neg c, if_neg c]
      obtain ⟨z, ⟨e1, e3, -⟩ | ⟨e1, e3⟩⟩ := x_inside (a' := 34) (k := stQ g n r (stM g n r)) I.1 (by omega) (by omega)
      · exact absurd ⟨c, e3⟩ m2
      rw [e1, Option.bind_some, if_pos rfl]
      refine jS_inr ?_
      rw [eu_X44_string_38]; unfold du_X44_string_38
      have hBw : 0 ≤ jn (jp w 53 R 7 z) ∧ jBd (jp w 53 R 7 z) 1 6 := ⟨by have := I.2.2.1.n; show 0 ≤ jn w; omega, (show jBd w 1 6 from jBd.gw (p' := 1) (q' := 6) (jBd.le hB.2 (by omega) (by omega)) I.2.2.1)⟩
      dsimp only
      rw [jf_neg (by omega), e2, c_thr hBw]
      exact jS_end (.inl ⟨rfl, rWr.fl hBw.1, ((I.2.2.1.jp (.inl (.inl rfl))).trans rWr.gw (C := rdA u R x) fun y _ z => z.elim id fun z => .inl z).mono (by show _ ≤ n - r + 1; omega) (by show _ ≤ 1300 * (n - r) + 6; omega) fun y _ z => z⟩)
end jClex4
