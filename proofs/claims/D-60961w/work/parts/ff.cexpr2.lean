/-! the component's reader: counting, names, terms -/
section jCexpr2
variable {s t u w v' : jS} {R x b a a' n p q r k c f v y e P Q X Y X' Y' pl : Int} {g : Int → Int} {l m : List Int} {NL : List (List Int)} {W : wR4} {st : pS} {L L1 L2 : pI}
theorem nmIx_at (l : List Int) : ∀ (NL : List (List Int)) (i : Nat), i < NL.length → (∀ j : Nat, j < i → ¬ NL.getD j [] = l) → NL.getD i [] = l → nmIx NL l = i
  | [], i, h, _, _ => absurd h (Nat.not_lt_zero i)
  | a :: NL, 0, _, _, h => by
    have h' : a = l := h
    show (if a = l then 0 else nmIx NL l + 1) = 0
    rw [if_pos h']
  | a :: NL, i + 1, h, h1, h2 => by
    have h' : ¬ a = l := h1 0 (by omega)
    show (if a = l then 0 else nmIx NL l + 1) = i + 1
    rw [if_neg h', nmIx_at l NL i (by have : i + 1 < NL.length + 1 := h; omega) (fun j hj => h1 (j + 1) (by omega)) h2]
theorem nmIx_no (l : List Int) : ∀ (NL : List (List Int)), (∀ j : Nat, j < NL.length → ¬ NL.getD j [] = l) → nmIx NL l = NL.length
  | [], _ => rfl
  | a :: NL, h => by
    have h' : ¬ a = l := h 0 (by show 0 < NL.length + 1; omega)
    show (if a = l then 0 else nmIx NL l + 1) = NL.length + 1
    rw [if_neg h', nmIx_no l NL fun j hj => h (j + 1) (by show j + 1 < NL.length + 1; omega)]
theorem x_find (N : nmC u b x NL) (B : bkI u b) (hy : rStr u y l x) : m_X12_find u b y = some (if nmIx NL l < NL.length then (nmIx NL l : Int) else -1) := by
  obtain ⟨n1, n2, n3⟩ := N
  rw [em_X12_find]; unfold dm_X12_find
  rw [eu_X12_find_2]; unfold du_X12_find_2
  have key := jseekR (C := jc3 b_X12_find_2) (s := u) (fun k => [b, y, k]) (fun k => NL.getD k.toNat [] = l) (fun k => some k) (some (-1)) 0 NL.length (by omega) (fun k k0 k1 hk => ?_) (fun k k0 k1 hk => ?_) (by
    show b_X12_find_2 u b y NL.length = _
    unfold b_X12_find_2
    rw [n1, if_neg (by omega)])
  rotate_left
  · show b_X12_find_2 u b y k = _
    unfold b_X12_find_2
    obtain ⟨m1, m2⟩ := n3 k.toNat (by omega)
    rw [show ((k.toNat : Nat) : Int) = k by omega] at m1
    rw [n1, if_pos k1, jlt_in k0 (by omega), Option.bind_some, s_equals m1.1 hy.1 (by omega), Option.bind_some, if_neg hk, if_pos rfl, W32_in (by omega) (by omega)]
  · show b_X12_find_2 u b y k = _
    unfold b_X12_find_2
    obtain ⟨m1, m2⟩ := n3 k.toNat (by omega)
    rw [show ((k.toNat : Nat) : Int) = k by omega] at m1
    rw [n1, if_pos k1, jlt_in k0 (by omega), Option.bind_some, s_equals m1.1 hy.1 (by omega), Option.bind_some, if_pos hk, if_neg (by decide)]
  rcases key with ⟨k, k0, k1, hk, hj, e⟩ | ⟨hj, e⟩
  · have := nmIx_at l NL k.toNat (by omega) (fun j hj' => by have := hj j (by omega) (by omega); rwa [show ((j : Nat) : Int).toNat = j by omega] at this) hk
    rw [e, this, if_pos (by omega), show ((k.toNat : Nat) : Int) = k by omega]
  · have := nmIx_no l NL (fun j hj' => by have := hj j (by omega) (by omega); rwa [show ((j : Nat) : Int).toNat = j by omega] at this)
    rw [e, this, if_neg (by omega)]
theorem x_count (h : cR u R x b a g n st) (hB : 0 ≤ jn u ∧ jBd u 1 6) : m_X44_count u R pl = some (if st.2.2.1 = 2000 ∨ st.2.2.2 = 60 then (rWr u R 8 pl, true, jn u) else (jp u 53 R 14 (st.2.2.1 + 1), false, 0)) := by
  obtain ⟨I, B, ⟨p0, p1⟩, tk, N, c14, c15, cb⟩ := h
  rw [em_X44_count]; unfold dm_X44_count
  have e24 : u_X44_count_24 u R pl = some (rWr u R 8 pl, true, jn u) := by
    rw [eu_X44_count_24]; unfold du_X44_count_24; exact c_thr hB
  rw [e24, c14, c15, W32_in (by omega) (by omega), W32_in (by omega) (by omega), show st.2.2.1 - (st.2.2.1 - st.2.2.2) = st.2.2.2 by omega]
  by_cases c1 : st.2.2.1 = 2000
  · rw [if_pos c1, if_pos (.inl c1)]
  by_cases c2 : st.2.2.2 = 60
  · rw [if_neg c1, if_pos c2, if_pos (.inr c2)]
  · rw [if_neg c1, if_neg c2, if_neg (fun z => z.elim c1 c2)]; rfl
/-- slots of the reader that are no word's -/
theorem lkS.sl {S : Int → Prop} (h : lkS u R x g n W) (I : rdI u R x b a g n) (k : rSl u w R S) (e : ∀ j, S j → j = 14 ∨ j = 15 ∨ j = 3) : lkS w R x g n W := by
  obtain ⟨⟨h1, h2, h3, h4, h5⟩, h6, h7, h8, h9⟩ := h
  have F : ∀ j, ¬ (j = 14 ∨ j = 15 ∨ j = 3) → jf w 53 R j = jf u 53 R j := fun j hj => k.2 _ _ _ fun z => hj (e j z.2.2)
  have kx : jf w 8 x 0 = jf u 8 x 0 := k.2 _ _ _ (by omega)
  have st : ∀ l, rStr u (jf u 53 R 9) l x → rStr w (jf w 53 R 9) l x := fun l ⟨t1, t2, ⟨t3, t4⟩, t5⟩ => by
    rw [F 9 (by omega)]
    have nyR : ¬ jf u 53 R 9 = R := fun q => by have := I.1.2.2; rw [q] at t2; omega
    have nbR : ¬ jF u (jf u 53 R 9) 0 = R := fun q => by have := I.1.2.2; have q' := t1.2.2.1.2.2; rw [q] at q'; omega
    have hp := t1.keep k.gw (fun q => nyR q) (fun q => nbR q)
    have hF : ∀ j, jF w (jf u 53 R 9) j = jF u (jf u 53 R 9) j := fun j => k.gw.F t1.1.2.1 (fun q => nyR q) j
    exact ⟨hp.1, by rw [k.1.1]; exact t2, ⟨by rw [hF]; exact t3, by rw [hF]; exact t4⟩, by rw [hF, kx]; exact t5⟩
  exact ⟨⟨by rw [F 5 (by omega)]; exact h1, by rw [F 8 (by omega)]; exact h2, fun z => ⟨st _ (h3 z).1, by rw [F 7 (by omega)]; exact (h3 z).2⟩, fun z => st _ (h4 z), fun z => by rw [F 7 (by omega)]; exact h5 z⟩, by rw [F 4 (by omega)]; exact h6, by rw [F 6 (by omega)]; exact h7, by rw [F 2 (by omega)]; exact h8, h9⟩
theorem rSl.ke {S : Int → Prop} (k : rSl u w R S) (e : ∀ j, S j → ¬ (j = 0 ∨ j = 1 ∨ j = 3 ∨ j = 10 ∨ j = 11 ∨ j = 15)) : kpE u w R x b 0 0 := by
  obtain ⟨⟨h1, h2, h3, h4, h5, h6, h7⟩, h8⟩ := k
  exact ⟨⟨by omega, by omega, by omega, h5, h6, h7⟩, fun y _ => ⟨by rw [h1], by rw [h2]⟩, fun c y k _ z _ _ => h8 c y k fun q => z (.inl q.2.1), .inl (h8 _ _ _ (by omega)), fun k hk => h8 _ _ _ fun q => e k q.2.2 hk⟩
/-- one is counted -/
theorem cR.cnt (h : cR u R x b a g n st) (lk : lkS u R x g n (wd g n st.1)) (h1 : ¬ st.2.2.1 = 2000) : cR (jp u 53 R 14 (st.2.2.1 + 1)) R x b a g n (st.1, st.2.1, st.2.2.1 + 1, st.2.2.2 + 1) ∧ lkS (jp u 53 R 14 (st.2.2.1 + 1)) R x g n (wd g n st.1) ∧ kpE u (jp u 53 R 14 (st.2.2.1 + 1)) R x b 0 0 := by
  obtain ⟨I, B, ⟨p0, p1⟩, tk, N, c14, c15, cb⟩ := h
  have K : rSl u (jp u 53 R 14 (st.2.2.1 + 1)) R (fun k => k = 14) := rSl.rfl.jp rfl
  have ke : kpE u (jp u 53 R 14 (st.2.2.1 + 1)) R x b 0 0 := K.ke fun j z => by omega
  have lk' := lk.sl I K fun j z => .inl z
  exact ⟨⟨I.sl K (by omega), B.ke I ke, ⟨p0, p1⟩, .inr lk', N.ke I B ke (K.2 _ _ _ (by omega)) (fun j => K.2 _ _ _ (by omega)), jf_pos ⟨rfl, rfl, rfl⟩, by rw [jf_neg (by omega), c15]; show _ = st.2.2.1 + 1 - (st.2.2.2 + 1); omega, by show 0 ≤ st.2.2.2 + 1 ∧ st.2.2.2 + 1 ≤ st.2.2.1 + 1 ∧ st.2.2.1 + 1 ≤ 2000; omega⟩, lk', ke⟩
/-- the word is taken -/
theorem cR.take (h : cR u R x b a g n st) (lk : lkS u R x g n (wd g n st.1)) (hW : (wd g n st.1).2.2.2 ≤ n ∧ 0 ≤ (wd g n st.1).2.2.2) : cR (jp (jp u 53 R 2 (jf u 53 R 8)) 53 R 4 0) R x b a g n ((wd g n st.1).2.2.2, st.2) ∧ kpE u (jp (jp u 53 R 2 (jf u 53 R 8)) 53 R 4 0) R x b 0 0 ∧ jf (jp (jp u 53 R 2 (jf u 53 R 8)) 53 R 4 0) 53 R 4 = 0 := by
  obtain ⟨I, B, ⟨p0, p1⟩, tk, N, c14, c15, cb⟩ := h
  have K : rSl u (jp (jp u 53 R 2 (jf u 53 R 8)) 53 R 4 0) R (fun k => k = 2 ∨ k = 4) := (rSl.rfl.jp (.inl rfl)).jp (.inr rfl)
  have ke : kpE u (jp (jp u 53 R 2 (jf u 53 R 8)) 53 R 4 0) R x b 0 0 := K.ke fun j z => by omega
  refine ⟨⟨I.sl K (by omega), B.ke I ke, ⟨hW.2, hW.1⟩, .inl ⟨jf_pos ⟨rfl, rfl, rfl⟩, by rw [jf_neg (by omega), jf_pos ⟨rfl, rfl, rfl⟩]; exact lk.1.2.1⟩, N.ke I B ke (K.2 _ _ _ (by omega)) (fun j => K.2 _ _ _ (by omega)), by rw [K.2 _ _ _ (by omega)]; exact c14, by rw [K.2 _ _ _ (by omega)]; exact c15, cb⟩, ke, jf_pos ⟨rfl, rfl, rfl⟩⟩
/-- a name's number -/
theorem x_named (h : cR u R x b a g n st) (lk : lkS u R x g n (wd g n st.1)) (hk : (wd g n st.1).1 = 1) (hl : (nmO g (wd g n st.1).2.2.1 (wd g n st.1).2.2.2).length ≤ 1000) (hB : 0 ≤ jn u ∧ jBd u 1 6) :
    if nmIx st.2.1 (nmO g (wd g n st.1).2.2.1 (wd g n st.1).2.2.2) = 150 then m_X44_named u R = some (rWr u R 8 (wd g n st.1).2.2.1, true, jn u)
    else ∃ w, m_X44_named u R = some (w, false, ((nmIx st.2.1 (nmO g (wd g n st.1).2.2.1 (wd g n st.1).2.2.2) : Nat) : Int)) ∧ cR w R x b a g n (st.1, nmAdd st.2.1 (nmO g (wd g n st.1).2.2.1 (wd g n st.1).2.2.2), st.2.2) ∧ lkS w R x g n (wd g n st.1) ∧ kpE u w R x b 0 0 := by
  have h0 := h
  obtain ⟨I, B, ⟨p0, p1⟩, tk, N, c14, c15, cb⟩ := h
  have hs := (lk.1.2.2.1 (.inl hk)).1
  have f10 : jf u 53 R 10 = b := I.2.2.2.1
  rw [em_X44_named]; unfold dm_X44_named
  rw [f10, jct_in B.tt, x_find N B hs, Option.bind_some]
  generalize hl' : nmO g (wd g n st.1).2.2.1 (wd g n st.1).2.2.2 = l at *
  have le := nmIx_le l st.2.1
  have n2 := N.2.1
  unfold nmAdd
  by_cases c : nmIx st.2.1 l < st.2.1.length
  · rw [if_neg (show ¬ nmIx st.2.1 l = 150 by omega), if_pos c, if_pos c, if_neg (by omega)]
    exact ⟨u, rfl, h0, lk, kpE.rfl⟩
  have el : nmIx st.2.1 l = st.2.1.length := by omega
  rw [if_neg c, if_neg c, if_pos rfl, jrd_in B.1.1 B.1.2.2, Option.bind_some, N.1, lk.2.2.1, el]
  by_cases c2 : st.2.1.length = 150
  · rw [if_pos c2, if_pos (by omega)]; exact c_thr hB
  rw [if_neg c2, if_neg (by omega), jrd_in B.1.1 B.1.2.2, Option.bind_some, B.2.1.2.2.2.2]
  have hyk : 0 ≤ jf u 53 R 9 ∧ jK u (jf u 53 R 9) = 9 := ⟨hs.1.1.1, hs.2.1⟩
  rw [Option.bind_some]
  have has : jas u 1026 9 (b + 5) st.2.1.length (jf u 53 R 9) = some (jp u 1026 (b + 5) st.2.1.length (jf u 53 R 9)) := by
    unfold jas; rw [if_pos ⟨by have := B.1.1; omega, B.2.2.2.2.2.2.1, by omega, by rw [B.2.2.2.2.2.2.2]; omega, .inr hyk⟩]
  rw [has, Option.bind_some, show jf (jp u 1026 (b + 5) st.2.1.length (jf u 53 R 9)) 53 R 10 = b by rw [jf_neg (by omega)]; exact f10, jrd_in (s := jp u 1026 (b + 5) st.2.1.length (jf u 53 R 9)) B.1.1 B.1.2.2, Option.bind_some, jf_neg (by omega), N.1, jwr_in (s := jp u 1026 (b + 5) st.2.1.length (jf u 53 R 9)) B.1.1 B.1.2.2, Option.bind_some, W32_in (by omega) (by omega)]
  rw [show jf (jp (jp u 1026 (b + 5) st.2.1.length (jf u 53 R 9)) 16 b 8 (st.2.1.length + 1)) 53 R 10 = b by rw [jf_neg (by omega), jf_neg (by omega)]; exact f10, jrd_in (s := jp (jp u 1026 (b + 5) st.2.1.length (jf u 53 R 9)) 16 b 8 (st.2.1.length + 1)) B.1.1 B.1.2.2, Option.bind_some, jf_pos ⟨rfl, rfl, rfl⟩, W32_in (by omega) (by omega)]
  have ke : kpE u (jp (jp u 1026 (b + 5) st.2.1.length (jf u 53 R 9)) 16 b 8 (st.2.1.length + 1)) R x b 0 0 := ⟨⟨Int.le_refl _, by show jn u ≤ jn u + 0; omega, by show ju u ≤ ju u + 0; omega, rfl, rfl, rfl⟩, fun _ _ => ⟨rfl, rfl⟩, fun c y j _ z1 z2 z3 => by rw [jf_neg (fun q => z2 ⟨q.1, q.2.1, q.2.2⟩), jf_neg (fun q => z3 ⟨q.1, q.2.1⟩)], .inl (by (repeat (first | rw [jf_neg (by omega)] | rw [jf_pos (by omega)] | rw [ou_neg (by omega)] | rw [ou_pos (by omega)]))), fun k hk => by (repeat (first | rw [jf_neg (by omega)] | rw [jf_pos (by omega)] | rw [ou_neg (by omega)] | rw [ou_pos (by omega)]))⟩
  have I' : rdI (jp (jp u 1026 (b + 5) st.2.1.length (jf u 53 R 9)) 16 b 8 (st.2.1.length + 1)) R x b a g n := by
    obtain ⟨⟨h1, h2, h3⟩, h4, h5, h6, h7, ⟨h8, h9, h10, h11⟩, h12, h13, ⟨l, hl⟩, h15, h16⟩ := I
    have gw := ke.gw
    have nb : ¬ x = b ∧ ¬ jf u 8 x 0 = b ∧ ¬ x = b + 5 ∧ ¬ jf u 8 x 0 = b + 5 := by
      have k1 := hl.1.2.2; have k2 := hl.2.2.2.1.2.2; have k3 := B.1.2.2; have k4 := B.2.2.2.2.2.2.1
      refine ⟨fun z => ?_, fun z => ?_, fun z => ?_, fun z => ?_⟩
      · rw [z] at k1; omega
      · rw [z] at k2; omega
      · rw [z] at k1; omega
      · rw [z] at k2; omega
    have gw2 : jGw u (jp (jp u 1026 (b + 5) st.2.1.length (jf u 53 R 9)) 16 b 8 (st.2.1.length + 1)) 0 0 (fun y => y = b ∨ y = b + 5) := (jGw.rfl.jp (.inl (.inr rfl))).jp (.inl (.inl rfl))
    have hl2 := hl.keep gw2 (fun z => z.elim nb.1 nb.2.2.1) (fun z => z.elim nb.2.1 nb.2.2.2)
    exact ⟨⟨h1, h2, h3⟩, by (repeat (first | rw [jf_neg (by omega)] | rw [jf_pos (by omega)] | rw [ou_neg (by omega)] | rw [ou_pos (by omega)])); exact h4, by (repeat (first | rw [jf_neg (by omega)] | rw [jf_pos (by omega)] | rw [ou_neg (by omega)] | rw [ou_pos (by omega)])); exact h5, by (repeat (first | rw [jf_neg (by omega)] | rw [jf_pos (by omega)] | rw [ou_neg (by omega)] | rw [ou_pos (by omega)])); exact h6, by (repeat (first | rw [jf_neg (by omega)] | rw [jf_pos (by omega)] | rw [ou_neg (by omega)] | rw [ou_pos (by omega)])); exact h7, ⟨h8, h9, h10, h11⟩, fun j j0 j1 => by (repeat (first | rw [jf_neg (by omega)] | rw [jf_pos (by omega)] | rw [ou_neg (by omega)] | rw [ou_pos (by omega)])); exact h12 j j0 j1, h13, ⟨l, hl2.1⟩, by rw [hl2.2]; exact h15, h16.keep gw2 fun y z => by
      have k3 := B.1.2.2; have k4 := B.2.2.2.2.2.2.1
      rcases z with z | z <;> rw [z] <;> omega⟩
  have kx : jf (jp (jp u 1026 (b + 5) st.2.1.length (jf u 53 R 9)) 16 b 8 (st.2.1.length + 1)) 8 x 0 = jf u 8 x 0 := by (repeat (first | rw [jf_neg (by omega)] | rw [jf_pos (by omega)] | rw [ou_neg (by omega)] | rw [ou_pos (by omega)]))
  have F : ∀ j, jf (jp (jp u 1026 (b + 5) st.2.1.length (jf u 53 R 9)) 16 b 8 (st.2.1.length + 1)) 53 R j = jf u 53 R j := fun j => by (repeat (first | rw [jf_neg (by omega)] | rw [jf_pos (by omega)] | rw [ou_neg (by omega)] | rw [ou_pos (by omega)]))
  have lk' : lkS (jp (jp u 1026 (b + 5) st.2.1.length (jf u 53 R 9)) 16 b 8 (st.2.1.length + 1)) R x g n (wd g n st.1) := by
    obtain ⟨⟨h1, h2, h3, h4, h5⟩, h6, h7, h8, h9⟩ := lk
    exact ⟨⟨by rw [F]; exact h1, by rw [F]; exact h2, fun z => ⟨by rw [F]; exact (h3 z).1.ke I ke, by rw [F]; exact (h3 z).2⟩, fun z => by rw [F]; exact (h4 z).ke I ke, fun z => by rw [F]; exact h5 z⟩, by rw [F]; exact h6, by rw [F]; exact h7, by rw [F]; exact h8, h9⟩
  refine ⟨_, by rw [show ((st.2.1.length : Int) + 1 - 1) = st.2.1.length by omega], ⟨I', B.ke I ke, ⟨p0, p1⟩, .inr lk', ⟨?_, ?_, fun i hi => ?_⟩, by rw [F]; exact c14, by rw [F]; exact c15, cb⟩, lk', ke⟩
  · rw [jf_pos ⟨rfl, rfl, rfl⟩]; show _ = (((st.2.1 ++ [l]).length : Nat) : Int); simp
  · show (st.2.1 ++ [l]).length ≤ 150; simp; omega
  · have hi' : i < st.2.1.length + 1 := by simpa using hi
    show rStr _ (jf _ 1026 (b + 5) i) ((st.2.1 ++ [l]).getD i []) x ∧ ((st.2.1 ++ [l]).getD i []).length ≤ 1000
    by_cases ci : i = st.2.1.length
    · subst ci
      rw [jf_neg (by omega), jf_pos ⟨rfl, rfl, rfl⟩, show (st.2.1 ++ [l]).getD st.2.1.length [] = l by simp]
      exact ⟨hs.ke I ke, hl⟩
    · rw [jf_neg (by omega), jf_neg (by omega), show (st.2.1 ++ [l]).getD i [] = st.2.1.getD i [] by rw [List.getD_eq_getElem?_getD, List.getD_eq_getElem?_getD, List.getElem?_append_left (by omega)]]
      exact ⟨(N.2.2 i (by omega)).1.ke I ke, (N.2.2 i (by omega)).2⟩
/-- a term that layT itself down so -/
def layT (lo : Int) (u : jS) : Nat → Int → pI → Prop
  | 0, _, _ => False
  | d + 1, y, L => (lo ≤ y ∧ y < jn u) ∧ ((jK u y = 66 ∧ L = [(jf u 66 y 0, jf u 66 y 1)]) ∨ (jK u y = 65 ∧ ∃ L1, layT lo u d (jf u 65 y 1) L1 ∧ L = L1 ++ [(jf u 65 y 0, 0)]) ∨ (jK u y = 67 ∧ ∃ L1 L2, layT lo u d (jf u 67 y 1) L1 ∧ layT lo u d (jf u 67 y 2) L2 ∧ L = L1 ++ L2 ++ [(jf u 67 y 0, 0)]))
theorem layT.up {lo lo' : Int} (hl : lo' ≤ lo) : ∀ {d d' : Nat} {y : Int} {L : pI}, layT lo u d y L → d ≤ d' → layT lo' u d' y L
  | 0, _, _, _, h, _ => h.elim
  | d + 1, 0, _, _, _, h => absurd h (by omega)
  | d + 1, d' + 1, y, L, ⟨h0, h⟩, hd => ⟨⟨by omega, h0.2⟩, by
    rcases h with h | ⟨h1, L1, h2, h3⟩ | ⟨h1, L1, L2, h2, h3, h4⟩
    · exact .inl h
    · exact .inr (.inl ⟨h1, L1, layT.up hl h2 (by omega), h3⟩)
    · exact .inr (.inr ⟨h1, L1, L2, layT.up hl h2 (by omega), layT.up hl h3 (by omega), h4⟩)⟩
theorem layT.ke {lo : Int} (I : rdI u R x b a g n) (B : bkI u b) (k : kpE u w R x b X Y) : ∀ {d : Nat} {y : Int} {L : pI}, layT lo u d y L → layT lo w d y L
  | 0, _, _, h => h.elim
  | d + 1, y, L, ⟨⟨h0, h0'⟩, h⟩ => by
    have hr := I.1.2.2
    have hx := I.row
    have hb5 := B.2.2.2.2.2.2.1
    have hc : ∀ c, (c = 65 ∨ c = 66 ∨ c = 67) → jK u y = c → ∀ j, jf w c y j = jf u c y j := fun c hc hy j => k.2.2.1 c y j h0' (fun z => by
      rcases z with z | z | z <;> rw [z] at hy <;> omega) (by omega) (by omega)
    have hk : jK w y = jK u y := (k.2.1 y h0').1
    refine ⟨⟨h0, by have := k.1.1; omega⟩, ?_⟩
    rw [hk]
    rcases h with ⟨h1, h2⟩ | ⟨h1, L1, h2, h3⟩ | ⟨h1, L1, L2, h2, h3, h4⟩
    · exact .inl ⟨h1, by rw [hc 66 (by omega) h1, hc 66 (by omega) h1]; exact h2⟩
    · exact .inr (.inl ⟨h1, L1, by rw [hc 65 (by omega) h1]; exact layT.ke I B k h2, by rw [hc 65 (by omega) h1]; exact h3⟩)
    · exact .inr (.inr ⟨h1, L1, L2, by rw [hc 67 (by omega) h1]; exact layT.ke I B k h2, by rw [hc 67 (by omega) h1]; exact layT.ke I B k h3, by rw [hc 67 (by omega) h1]; exact h4⟩)
/-- a term stays when only cells below it are written -/
theorem layT.lt {lo : Int} {A : Int → Prop} (k : jGw u w X Y A) (hA : ∀ y, A y → y < lo) : ∀ {d : Nat} {y : Int} {L : pI}, layT lo u d y L → layT lo w d y L
  | 0, _, _, h => h.elim
  | d + 1, y, L, ⟨⟨h0, h0'⟩, h⟩ => by
    have hc : ∀ c j, jf w c y j = jf u c y j := fun c j => k.2.2 c y j h0' (fun z => by have := hA y z; omega)
    refine ⟨⟨h0, by have := k.1.1; omega⟩, ?_⟩
    rw [k.K h0', hc, hc, hc, hc, hc, hc, hc]
    rcases h with h | ⟨h1, L1, h2, h3⟩ | ⟨h1, L1, L2, h2, h3, h4⟩
    · exact .inl h
    · exact .inr (.inl ⟨h1, L1, layT.lt k hA h2, h3⟩)
    · exact .inr (.inr ⟨h1, L1, L2, layT.lt k hA h2, layT.lt k hA h3, h4⟩)
end jCexpr2
