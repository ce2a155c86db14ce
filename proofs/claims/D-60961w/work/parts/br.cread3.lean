/-! the component reads a file: names, rules, sizes -/
section jCread3
variable {s t u : jS} {B N R n p f a b x y e : Int} {g g' : Int → Int} {o : Int → Int → Int → Int} {L : List (Prop × Int × Int)} {c : Prop}
theorem T34k (h : jTt s 34 b) : ∀ a, b ≤ a → a < b + 613 → jK s a < 3000 := by
  obtain ⟨⟨b0, b1⟩, ⟨a1, a2, a3, a4, a5⟩, ⟨c1, c2, c3, c4⟩, ⟨d1, d2, d3, d4, d5⟩, ⟨f1, f2, f3, f4, f5⟩⟩ := T34 h
  intro a x0 x1
  by_cases q : a < b + 5
  · have : a = b ∨ a = b + 1 ∨ a = b + 2 ∨ a = b + 3 ∨ a = b + 4 := by omega
    rcases this with e | e | e | e | e <;> rw [e] <;> omega
  by_cases q : a < b + 13
  · obtain ⟨i1, i2, i3, i4, i5⟩ := T35 (a5 ((a - b - 5) / 2) (by omega) (by omega)).2
    have : a = (b + 1) + 4 + 2 * ((a - b - 5) / 2) ∨ a = (b + 1) + 4 + 2 * ((a - b - 5) / 2) + 1 := by omega
    rcases this with e | e <;> rw [e] <;> omega
  by_cases q : a < b + 313
  · obtain ⟨i1, i2, i3, i4⟩ := T36 (d5 ((a - b - 13) / 3) (by omega) (by omega)).2
    obtain ⟨j1, j2, j3, j4, j5, -⟩ := T37 i4
    have : a = (b + 3) + 10 + 3 * ((a - b - 13) / 3) ∨ a = (b + 3) + 10 + 3 * ((a - b - 13) / 3) + 1 ∨ a = (b + 3) + 10 + 3 * ((a - b - 13) / 3) + 1 + 1 := by omega
    rcases this with e | e | e <;> rw [e] <;> omega
  · obtain ⟨i1, i2⟩ := T38 (f5 (a - b - 313) (by omega) (by omega)).2
    rw [show (b + 4) + 309 + 1 * (a - b - 313) = a by omega] at i2
    omega
theorem T41 (h : jTt s 41 R) : (jK s R = 25 ∧ jK s (R + 1) = 1000 ∧ jK s (R + 2) = 1000) ∧ jTt s 34 (R + 3) ∧ jTt s 36 (R + 616) := by
  have f5 := h.fld (k := 5) (o := 1) (t' := 1048589) (by decide)
  have f6 := h.fld (k := 6) (o := 2) (t' := 1048593) (by decide)
  have f7 := h.fld (k := 7) (o := 3) (t' := 34) (by decide)
  have f8 := h.fld (k := 8) (o := 616) (t' := 36) (by decide)
  exact ⟨⟨h.zz.2.2.1, f5.2.zz.2.2.1, f6.2.zz.2.2.1⟩, f7.2, f8.2⟩
theorem T41k (h : jTt s 41 R) : ∀ a, R ≤ a → a < R + 619 → jK s a < 3000 := by
  obtain ⟨⟨k0, k1, k2⟩, h3, h4⟩ := T41 h
  intro a a0 a1
  by_cases q : a < R + 3
  · have : a = R ∨ a = R + 1 ∨ a = R + 2 := by omega
    rcases this with e | e | e <;> rw [e] <;> omega
  by_cases q : a < R + 616
  · exact T34k h3 a (by omega) (by omega)
  · obtain ⟨i1, i2, i3, i4⟩ := T36 h4
    obtain ⟨j1, j2, j3, j4, j5, -⟩ := T37 i4
    have : a = R + 616 ∨ a = R + 616 + 1 ∨ a = R + 616 + 1 + 1 := by omega
    rcases this with e | e | e <;> rw [e] <;> omega
theorem rH.fx (h : rH s u R B g n) (k : jFx u t (R + 1) 618) : rH s t R B g n := by
  obtain ⟨⟨h1, h2, h3⟩, h4, h5, h6⟩ := h
  exact ⟨⟨h1.trans (k.wide (by omega) (by omega)), by rw [k.F (by omega)]; exact h2, by rw [k.F (by omega)]; exact h3⟩, by rw [k.F (by omega)]; exact h4, by rw [k.F (by omega)]; exact h5, by rw [k.F (by omega)]; exact h6⟩
/-- the part whose name stands at a place -/
theorem c_namedR (C : rC s R B g n) (h : rH s u R B g n) (hC : pCon u) (a0 : 0 ≤ a) (hz : ∃ m, a ≤ m ∧ m < n ∧ g m = 0) : ∃ z, m_X21_named u R a = some z ∧ ((∃ k : Nat, k < 11 ∧ tE g a k ∧ z = (k : Int) + 1) ∨ z = 0 ∧ ∀ k : Nat, k < 11 → ¬ tE g a k) := by
  have hn := C.1.2.1
  obtain ⟨m, m0, m1, m2⟩ := hz
  have inner : ∀ k : Nat, k < 11 → (tE g a k → u_X21_named_16 u R a ((k : Int) + 1) (jc u ((171 + k : Nat) : Int)) 0 = jinr (some ((k : Int) + 1))) ∧ (¬ tE g a k → u_X21_named_16 u R a ((k : Int) + 1) (jc u ((171 + k : Nat) : Int)) 0 = some (.inl [R, a, (k : Int) + 1 + 1])) := by
    intro k hk
    obtain ⟨o1, o2, o3⟩ := tl_ok k hk
    have hs : pSg u (jc u ((171 + k : Nat) : Int)) (tl k) := by
      have := (hC.1 (171 + k) (by omega)).1
      rw [o1] at this; exact this
    have hl := s_len hs (by omega)
    have nx : u_X21_named_98 u R a ((k : Int) + 1) = some (.inl [R, a, (k : Int) + 1 + 1]) := by
      rw [eu_X21_named_98]; unfold du_X21_named_98
      rw [W32_in (by omega) (by omega)]
    have nz : ∀ i : Nat, i < (tl k).length → ¬ (tl k).getD i 0 = 0 := fun i hi => by have := tl_at hk hi; omega
    rw [eu_X21_named_16]; unfold du_X21_named_16
    rcases jseekR (R := List Int ⊕ Int) (C := jc5 b_X21_named_16) (s := u) (fun i => [R, a, (k : Int) + 1, jc u ((171 + k : Nat) : Int), i]) (fun i => ¬ (a + i < n ∧ g (a + i) = (tl k).getD i.toNat 0)) (fun i => u_X21_named_62 u R a ((k : Int) + 1) (jc u ((171 + k : Nat) : Int)) i) (u_X21_named_62 u R a ((k : Int) + 1) (jc u ((171 + k : Nat) : Int)) (tl k).length) 0 (tl k).length (by omega) (fun i i0 i1 hi => by
        have hi := Decidable.not_not.mp hi
        show b_X21_named_16 u R a ((k : Int) + 1) _ i = _
        unfold b_X21_named_16
        rw [hl, Option.bind_some, if_pos i1, W32_in (by omega) (by omega), h.1.2.2, if_pos hi.1, g_u1 C h.1 (by omega) hi.1, s_charAt hs i0 i1, Option.bind_some, if_pos hi.2, W32_in (by omega) (by omega)]) (fun i i0 i1 hi => by
        show b_X21_named_16 u R a ((k : Int) + 1) _ i = _
        unfold b_X21_named_16
        have ha : a + i ≤ 9000 ∨ True := .inr trivial
        by_cases c1 : a + i < n
        · rw [hl, Option.bind_some, if_pos i1, W32_in (by omega) (by omega), h.1.2.2, if_pos c1, g_u1 C h.1 (by omega) c1, s_charAt hs i0 i1, Option.bind_some, if_neg (fun z => hi ⟨c1, z⟩)]
        · rw [hl, Option.bind_some, if_pos i1, W32_in (by omega) (by omega), h.1.2.2, if_neg c1]) (by
        show b_X21_named_16 u R a ((k : Int) + 1) _ _ = _
        unfold b_X21_named_16
        rw [hl, Option.bind_some, if_neg (by omega)]) with ⟨i, i0, i1, i2, i3, e⟩ | ⟨i2, e⟩
    · rw [e, eu_X21_named_62]; unfold du_X21_named_62
      rw [hl, Option.bind_some, if_neg (by omega), nx]
      refine ⟨fun hE => absurd ⟨?_, ?_⟩ i2, fun _ => rfl⟩
      · -- the 0 is not among the letters
        by_cases c : a + i < n
        · exact c
        · exfalso
          have := hE.1 (m - a).toNat (by omega)
          rw [show a + ((m - a).toNat : Int) = m by omega, m2] at this
          exact nz _ (by omega) this.symm
      · have := hE.1 i.toNat (by omega)
        rw [nt i0] at this
        exact this
    · have hall : ∀ i : Nat, i < (tl k).length → a + i < n ∧ g (a + i) = (tl k).getD i 0 := fun i hi => by
        have := Decidable.not_not.mp (i2 i (by omega) (by omega))
        rw [show (i : Int).toNat = i by omega] at this
        exact this
      have hm : a + (tl k).length ≤ m := by
        by_cases c : a + (tl k).length ≤ m
        · exact c
        · exfalso
          have := (hall (m - a).toNat (by omega)).2
          rw [show a + ((m - a).toNat : Int) = m by omega, m2] at this
          exact nz _ (by omega) this.symm
      rw [e, eu_X21_named_62]; unfold du_X21_named_62
      rw [hl, Option.bind_some, if_pos rfl, W32_in (by omega) (by omega), h.1.2.2, if_pos (by omega), g_u1 C h.1 (by omega) (by omega)]
      by_cases c0 : g (a + (tl k).length) = 0
      · rw [if_pos c0]
        exact ⟨fun _ => rfl, fun z => absurd ⟨fun i hi => (hall i hi).2, c0⟩ z⟩
      · rw [if_neg c0, nx]
        exact ⟨fun z => absurd z.2 c0, fun _ => rfl⟩
  have inner' : ∀ x, 1 ≤ x → x < 12 → (tE g a (x - 1).toNat → b_X21_named_2 u R a x = jinr (some x)) ∧ (¬ tE g a (x - 1).toNat → b_X21_named_2 u R a x = some (.inl [R, a, x + 1])) := by
    intro x x0 x1
    have := inner (x - 1).toNat (by omega)
    have hN := r_nameOf (s := u) (k := (x - 1).toNat) (by omega)
    rw [show (((x - 1).toNat : Nat) : Int) + 1 = x by omega] at this hN
    unfold b_X21_named_2
    rw [if_pos x1, hN, Option.bind_some]
    exact this
  rw [em_X21_named]; unfold dm_X21_named
  rw [eu_X21_named_2]; unfold du_X21_named_2
  rcases jseekR (C := jc3 b_X21_named_2) (s := u) (fun x => [R, a, x]) (fun x => tE g a (x - 1).toNat) (fun x => some x) (some 0) 1 12 (by omega) (fun x x0 x1 hx => (inner' x x0 x1).2 hx) (fun x x0 x1 hx => (inner' x x0 x1).1 hx) (by
      show b_X21_named_2 u R a 12 = _
      unfold b_X21_named_2
      rw [if_neg (by omega)]) with ⟨x, x0, x1, x2, -, e⟩ | ⟨x2, e⟩
  · exact ⟨x, e, .inl ⟨(x - 1).toNat, by omega, x2, by omega⟩⟩
  · refine ⟨0, e, .inr ⟨rfl, fun k hk hE => ?_⟩⟩
    have := x2 ((k : Int) + 1) (by omega) (by omega)
    rw [show ((k : Int) + 1 - 1).toNat = k by omega] at this
    exact this hE
/-- the reader's tables: a title's entry, an entry's title -/
def rN (u : jS) (R : Int) (g : Int → Int) : Prop := (∀ k : Nat, k < 11 → jf u 1000 (R + 1) ((k : Int) + 1) = ep g k) ∧ ∀ e, 1 ≤ e → e < RE g → jf u 1000 (R + 2) e = (pt g e : Int) + 1
theorem c_namesR (C : rC s R B g n) (h : rH s u R B g n) (hd : Hd g n) (hE : En g n) (hC : pCon s) : jE (m_X21_names u R) (ckR (cOK fun t => rH s t R B g n ∧ jFx u t (R + 1) 2 ∧ rN t R g) (cBD s R) (Lnames g)) := by
  have hn := C.1.2.1
  have hd' := hd
  obtain ⟨d1, d2, d3, d4, d5, d6, d7, d8, d9⟩ := hd
  have hd := hd'
  unfold Lnames
  rw [em_X21_names]; unfold dm_X21_names
  rw [h.2.2.2, g_told C h hd (by omega) d7 (by omega) (by omega), Option.bind_some]
  refine nd_if C h.1.1 (by rw [eu_X21_names_22]; unfold du_X21_names_22; rw [h.2.2.2, g_field h hd hn (by omega) d7 (by omega) (by omega), Option.bind_some]) (by rw [eu_X21_names_22]; unfold du_X21_names_22; rw [h.2.2.2, g_field h hd hn (by omega) d7 (by omega) (by omega), Option.bind_some]) (L_cmp_0 _ _) (fun q hq => hq.end) fun c3 => ?_
  dsimp only
  have iS : isS g (RN g) := fun z => by omega
  have hS := (hE (RN g) d6 d7).1 iS
  have v4 := rt_lo C hd (e := RN g) (k := 4) (by omega) d7 (by omega) (by omega)
  have v5 := rt_lo C hd (e := RN g) (k := 5) (by omega) d7 (by omega) (by omega)
  rw [h.2.2.2]
  obtain ⟨q, eq, hq⟩ := c_strs (f := 15) C h hd d6 d7 hS
  rw [eq, Option.bind_some]
  rcases hq with ⟨hg, q1, q2⟩ | ⟨f, p, hf, hb⟩
  rotate_left
  · rw [show q.2.1 = true from hb.1]
    exact jk_bad hf hb.end
  rw [q1]
  refine jk_app hg ?_
  show jE (u_X21_names_48 q.1 R 0) _
  rw [q2]
  have g5 : 0 < rt g (RN g) 5 ∧ g (rt g (RN g) 4 + rt g (RN g) 5 - 1) = 0 := by
    unfold Lstr at hg
    simp only [Gd_cons] at hg
    exact ⟨hg.1, hg.2.2.1⟩
  clear eq hg q1 q2
  rw [eu_X21_names_48]; unfold du_X21_names_48
  refine jS_for (fun k t => jFx u t (R + 1) 2 ∧ ∀ i, 0 ≤ i → i < k → jf t 1000 (R + 1) i = 0) (fun k => [R, k]) 0 12 (by omega) ⟨jFx.rfl, fun i i0 i1 => by omega⟩ (fun k t k0 k1 ⟨e1, e2⟩ => ?_) (fun t ⟨e1, e2⟩ => ?_)
  · show jE (b_X21_names_48 t R k) _
    unfold b_X21_names_48
    rw [if_pos k1, jst_in k0 k1, Option.bind_some, W32_in (by omega) (by omega)]
    refine jS_end ⟨rfl, e1.jp rfl (by omega) (by omega), fun i i0 i1 => ?_⟩
    by_cases c : i = k
    · rw [jf_pos ⟨rfl, rfl, c⟩]
    · (repeat (first | rw [jf_neg (by omega)] | rw [jf_pos (by omega)] | rw [ou_neg (by omega)] | rw [ou_pos (by omega)])); exact e2 i i0 (by omega)
  show jE (b_X21_names_48 t R 12) _
  unfold b_X21_names_48
  rw [if_neg (by omega), eu_X21_names_67]; unfold du_X21_names_67
  rw [eu_X21_names_69]; unfold du_X21_names_69
  refine jS_inr (jE_mono (?_ : jE _ (ckR (cOK fun t => rH s t R B g n ∧ jFx u t (R + 1) 2 ∧ rN t R g) (cBD s R) _)) fun r hr => hr)
  refine jk_for (Lname g) (fun e w => jFx u w (R + 1) 2 ∧ (∀ k : Nat, k < 11 → (jf w 1000 (R + 1) ((k : Int) + 1) = 0 ∧ ∀ j, 1 ≤ j → j < e → ¬ isT g j k) ∨ ∃ j, 1 ≤ j ∧ j < e ∧ isT g j k ∧ jf w 1000 (R + 1) ((k : Int) + 1) = j) ∧ ∀ j, 1 ≤ j → j < e → jf w 1000 (R + 2) j = (pt g j : Int) + 1) (fun k => [R, k]) 1 (RE g) d4 ⟨e1, fun k hk => .inl ⟨e2 _ (by omega) (by omega), fun j j0 j1 => by omega⟩, fun j j0 j1 => by omega⟩ (fun e w k0 k1 _ ⟨f1, f2, f3⟩ => ?_) fun w ⟨f1, f2, f3⟩ hG => ?_
  · show jE (b_X21_names_69 w R e) _
    unfold b_X21_names_69
    have hw := h.fx (f1.wide (by omega) (by omega))
    have hF := g_from C hw hd (e := RN g) (by omega) d7
    have hZ := g_size C hw hd (e := RN g) (by omega) d7
    rw [W32_in (by omega) (by omega)] at hF hZ
    have ve := rt_lo C hd (e := e) (k := 0) (by omega) k1 (by omega) (by omega)
    have Fe := g_field hw hd hn (e := e) (k := 0) (by omega) k1 (by omega) (by omega)
    rw [hw.2.2.1, if_pos k1, g_told C hw hd (by omega) k1 (by omega) (by omega), Option.bind_some, hw.2.2.2, hZ, Option.bind_some]
    -- what is found
    have found : ∀ z : Int, ((∃ k : Nat, isT g e k ∧ rt g e 0 < rt g (RN g) 5 ∧ z = (k : Int) + 1) ∨ z = 0 ∧ ¬ (rt g e 0 < rt g (RN g) 5 ∧ ∃ k, isT g e k)) → jE (u_X21_names_136 w R e z) (ckR (fun x => ∃ t, x = .inl (t, [R, e + 1]) ∧ jFx u t (R + 1) 2 ∧ (∀ k : Nat, k < 11 → (jf t 1000 (R + 1) ((k : Int) + 1) = 0 ∧ ∀ j, 1 ≤ j → j < e + 1 → ¬ isT g j k) ∨ ∃ j, 1 ≤ j ∧ j < e + 1 ∧ isT g j k ∧ jf t 1000 (R + 1) ((k : Int) + 1) = j) ∧ ∀ j, 1 ≤ j → j < e + 1 → jf t 1000 (R + 2) j = (pt g j : Int) + 1) (fun f p x => ∃ r, x = .inr r ∧ cBD s R f p r) (Lname g e)) := by
      intro z hz
      unfold Lname
      rw [eu_X21_names_136]; unfold du_X21_names_136
      have e155 : u_X21_names_155 w R e z R = u_X21_names_156 w R e z 0 R := by rw [eu_X21_names_155]; rfl
      rw [e155]
      have e6 : ∀ v : Int, u_X21_names_156 w R e z v R = (m_X21_need w R v 16 (rf g e 0)).bind fun q2 => jth q2.2.1 (jinr (some (q2.1, true, q2.2.2))) <| (jst q2.1 1000 (R + 1) 12 z e).bind fun s3 => (jst s3 1000 (R + 2) 16 e z).bind fun s4 => some (.inl (s4, [R, W32 (e + 1)])) := fun v => by
        rw [eu_X21_names_156]; unfold du_X21_names_156
        rw [Fe, Option.bind_some]
      have no : ¬ (rt g e 0 < rt g (RN g) 5 ∧ ∃ k, isT g e k ∧ ∀ j, 1 ≤ j → j < e → ¬ isT g j k) → jE (u_X21_names_156 w R e z 0 R) (ckR (fun x => ∃ t, x = .inl (t, [R, e + 1]) ∧ jFx u t (R + 1) 2 ∧ (∀ k : Nat, k < 11 → (jf t 1000 (R + 1) ((k : Int) + 1) = 0 ∧ ∀ j, 1 ≤ j → j < e + 1 → ¬ isT g j k) ∨ ∃ j, 1 ≤ j ∧ j < e + 1 ∧ isT g j k ∧ jf t 1000 (R + 1) ((k : Int) + 1) = j) ∧ ∀ j, 1 ≤ j → j < e + 1 → jf t 1000 (R + 2) j = (pt g j : Int) + 1) (fun f p x => ∃ r, x = .inr r ∧ cBD s R f p r) [(rt g e 0 < rt g (RN g) 5 ∧ ∃ k, isT g e k ∧ ∀ j, 1 ≤ j → j < e → ¬ isT g j k, 16, rf g e 0)]) := fun hno => by
        rw [e6]
        exact nd_x C hw.1.1 (.inl rfl) ⟨fun q => absurd q (by decide), fun q => absurd q hno⟩ (fun q hq => hq.inr) fun q => absurd q hno
      rcases hz with ⟨k, hk, hk0, ez⟩ | ⟨ez, hno⟩
      · subst ez
        have hk11 := hk.1
        rw [if_pos (by omega), jlt_in (by omega) (by omega), Option.bind_some]
        rcases f2 k hk.1 with ⟨g1, g2⟩ | ⟨j, j0, j1, j2, j3⟩
        · rw [if_pos g1, e6]
          refine nd_x C hw.1.1 (.inr rfl) ⟨fun _ => ⟨hk0, k, hk, g2⟩, fun _ => rfl⟩ (fun q hq => hq.inr) fun _ => jk_end ?_
          dsimp only
          rw [jst_in (by omega) (by omega), Option.bind_some, jst_in (by omega) (by omega), Option.bind_some, W32_in (by omega) (by omega)]
          refine jS_end ⟨_, rfl, (f1.jp rfl (by omega) (by omega)).jp rfl (by omega) (by omega), fun k' hk' => ?_, fun j j0 j1 => ?_⟩
          · rw [jf_neg (by omega)]
            by_cases ck : k' = k
            · subst ck
              exact .inr ⟨e, k0, by omega, hk, by (repeat (first | rw [jf_neg (by omega)] | rw [jf_pos (by omega)] | rw [ou_neg (by omega)] | rw [ou_pos (by omega)]))⟩
            · rw [jf_neg (by omega)]
              rcases f2 k' hk' with ⟨g3, g4⟩ | ⟨j, j0, j1, j2, j3⟩
              · exact .inl ⟨g3, fun j j0 j1 hj => by
                  by_cases cj : j = e
                  · subst cj; exact ck (isT_one hj hk)
                  · exact g4 j j0 (by omega) hj⟩
              · exact .inr ⟨j, j0, by omega, j2, j3⟩
          · by_cases cj : j = e
            · subst cj
              rw [jf_pos ⟨rfl, rfl, rfl⟩, pt_of hk]
            · rw [jf_neg (by omega), jf_neg (by omega)]; exact f3 j j0 (by omega)
        · rw [if_neg (by omega)]
          refine no fun ⟨_, k', hk', q⟩ => ?_
          have := isT_one hk hk'
          subst this
          exact q j j0 j1 j2
      · subst ez
        rw [if_neg (by omega)]
        exact no fun ⟨q1, k, q2, _⟩ => hno ⟨q1, k, q2⟩
    simp only [L_cmp_lt]
    by_cases cS : rt g e 0 < rt g (RN g) 5
    · rw [if_pos cS, eu_X21_names_101]; unfold du_X21_names_101
      have hr := rf_in (k := 0) hd hn (e := e) (by omega) k1 (by omega) (by omega)
      rw [if_neg (by decide), hw.2.2.2, hF, Option.bind_some, Fe, Option.bind_some, g_s4 C hw.1 (by omega) hr.2, show r4 g (rf g e 0) = rt g e 0 from rfl, W32_in (z := rt g e 0) (by omega) (by omega), W32_in (by omega) (by omega)]
      have hCw := hC.fx hw.1.1 (T41k C.2.2.2)
      obtain ⟨z, ez, hz⟩ := c_namedR C hw hCw (a := rt g (RN g) 4 + rt g e 0) (by omega) ⟨rt g (RN g) 4 + rt g (RN g) 5 - 1, by omega, by omega, g5.2⟩
      rw [ez, Option.bind_some]
      refine found z ?_
      rcases hz with ⟨k, k1, k2, k3⟩ | ⟨k1, k2⟩
      · exact .inl ⟨k, ⟨k1, k2⟩, cS, k3⟩
      · exact .inr ⟨k1, fun ⟨_, k, q1, q2⟩ => k2 k q1 q2⟩
    · rw [if_neg cS, eu_X21_names_101]; unfold du_X21_names_101
      rw [if_pos rfl]
      exact found 0 (.inr ⟨rfl, fun q => cS q.1⟩)
  · show jE (b_X21_names_69 w R (RE g)) _
    unfold b_X21_names_69
    have hw := h.fx (f1.wide (by omega) (by omega))
    have hN := Nm_of (ckF_gd.mpr hG)
    rw [hw.2.2.1, if_neg (by omega)]
    refine jS_inr (jS_end ⟨_, rfl, ck_end ⟨rfl, hw, f1, fun k hk => ?_, f3⟩⟩)
    rcases ep_cases hN k with ⟨p1, p2⟩ | ⟨p1, p2, p3⟩
    · rw [p1]
      rcases f2 k hk with ⟨g1, g2⟩ | ⟨j, j0, j1, j2, j3⟩
      · exact g1
      · exact absurd (pt_of j2) (p2 j j0 j1)
    · rcases f2 k hk with ⟨g1, g2⟩ | ⟨j, j0, j1, j2, j3⟩
      · have := (hN _ p1 p2).2.1
        rw [p3] at this
        exact absurd this (g2 _ p1 p2)
      · rw [j3]
        exact (hN _ p1 p2).2.2 j j0 j1 ((pt_of j2).trans p3.symm)
end jCread3
