/-! the component reads a file: rules, sizes, sections -/
section jCread4
variable {s t u : jS} {B N R n p f a b x y e : Int} {g g' : Int → Int} {o : Int → Int → Int → Int} {L : List (Prop × Int × Int)} {c : Prop}
theorem sr_c' {k : Nat} (hk : k < 11) : m_X13_sortOf u ((k : Int) + 1) = some (srO k) := by rw [e_X13_sortOf, sr_c k hk]
theorem fl_c' {k : Nat} (hk : k < 11) : m_X13_flagsOf u ((k : Int) + 1) = some (flO k) := by rw [e_X13_flagsOf, fl_c k hk]
theorem ea_c' {k : Nat} (hk : k < 11) : m_X13_eachOf u ((k : Int) + 1) = some (eaO k) := by rw [e_X13_eachOf, ea_c k hk]
theorem ep_lo (hd : Hd g n) (hN : Nm g) (k : Nat) : 0 ≤ ep g k ∧ ep g k < RE g := by
  have := hd.2.2.2.1
  rcases ep_cases hN k with h | h <;> omega
theorem c_rule1 (C : rC s R B g n) (h : rH s u R B g n) (hd : Hd g n) (hN : Nm g) (hr : rN u R g) (e0 : 1 ≤ e) (e1 : e < RE g) : jE (b_X21_shapes_2 u R e) (ckR (fun x => ∃ t, x = .inl (t, [R, e + 1]) ∧ t = u) (fun f p x => ∃ r, x = .inr r ∧ cBD s R f p r) (Lrule g e)) := by
  have hn := C.1.2.1
  have h16 := hd.2.2.2.2.1
  have F : ∀ k, 0 ≤ k → k < 10 → m_X21_field u R e k = some (rf g e k) := fun k k0 k1 => g_field h hd hn (by omega) e1 k0 k1
  have T : ∀ k, 0 ≤ k → k < 10 → m_X21_told u R e k = some (rt g e k) := fun k k0 k1 => g_told C h hd (by omega) e1 k0 k1
  have hP := hr.2 e e0 e1
  have hk := (hN e e0 e1).2.1.1
  have A : ∀ k : Nat, k < 11 → jlt u 1000 (R + 1) 12 ((k : Int) + 1) = some (ep g k) := fun k hk => by
    rw [jlt_in (by omega) (by omega), hr.1 k hk]
  unfold Lrule
  unfold b_X21_shapes_2
  rw [h.2.2.1, if_pos e1, jlt_in (by omega) (by omega), Option.bind_some, hP]
  generalize hkk : pt g e = k at *
  -- behind the two numbers
  have go : ∀ lk nf : Int, (lk = if isM k = true then 9 else if k = 8 then 10 else 0) → (nf = if isM k = true then (k : Int) + 1 - 6 + 1 else 0) → jE (u_X21_shapes_59 u R e ((k : Int) + 1) lk nf) (ckR (fun x => ∃ t, x = .inl (t, [R, e + 1]) ∧ t = u) (fun f p x => ∃ r, x = .inr r ∧ cBD s R f p r) [(rt g e 1 = srO k, 17, rf g e 1), (rt g e 2 = flO k, 17, rf g e 2), (rt g e 3 = 0, 17, rf g e 3),
      (if isM k = true then 0 < ep g 8 ∧ rt g e 6 = ep g 8 else if k = 8 then 0 < ep g 9 ∧ rt g e 6 = ep g 9 else rt g e 6 = 0, 17, rf g e 6),
      (k = 8 ∨ if isM k = true then 0 < ep g (k - 5) ∧ rt g e 7 = ep g (k - 5) else rt g e 7 = 0, 17, rf g e 7), (rt g e 9 = eaO k, 17, rf g e 9)]) := by
    intro lk nf hlk hnf
    rw [eu_X21_shapes_59]; unfold du_X21_shapes_59
    rw [T 1 (by omega) (by omega), Option.bind_some, sr_c' hk, Option.bind_some]
    refine nd_if C h.1.1 (by rw [eu_X21_shapes_82]; unfold du_X21_shapes_82; rw [F 1 (by omega) (by omega), Option.bind_some]) (by rw [eu_X21_shapes_82]; unfold du_X21_shapes_82; rw [F 1 (by omega) (by omega), Option.bind_some]) (L_cmp_0 _ _) (fun q hq => hq.inr) fun _ => ?_
    dsimp only
    rw [T 2 (by omega) (by omega), Option.bind_some, fl_c' hk, Option.bind_some]
    refine nd_if C h.1.1 (by rw [eu_X21_shapes_114]; unfold du_X21_shapes_114; rw [F 2 (by omega) (by omega), Option.bind_some]) (by rw [eu_X21_shapes_114]; unfold du_X21_shapes_114; rw [F 2 (by omega) (by omega), Option.bind_some]) (L_cmp_0 _ _) (fun q hq => hq.inr) fun _ => ?_
    dsimp only
    rw [T 3 (by omega) (by omega), Option.bind_some]
    refine nd_if C h.1.1 (by rw [eu_X21_shapes_142]; unfold du_X21_shapes_142; rw [F 3 (by omega) (by omega), Option.bind_some]) (by rw [eu_X21_shapes_142]; unfold du_X21_shapes_142; rw [F 3 (by omega) (by omega), Option.bind_some]) (L_cmp_0 _ _) (fun q hq => hq.inr) fun _ => ?_
    dsimp only
    have e209 : u_X21_shapes_209 u R e ((k : Int) + 1) nf R = u_X21_shapes_210 u R e ((k : Int) + 1) nf 0 R := by rw [eu_X21_shapes_209]; rfl
    have e278 : u_X21_shapes_278 u R e ((k : Int) + 1) R = u_X21_shapes_283 u R e ((k : Int) + 1) 1 R := by rw [eu_X21_shapes_278]; rfl
    have e282 : u_X21_shapes_282 u R e ((k : Int) + 1) R = u_X21_shapes_283 u R e ((k : Int) + 1) 0 R := by rw [eu_X21_shapes_282]; rfl
    -- the last ones
    have last : jE (if (k = 8 ∨ if isM k = true then 0 < ep g (k - 5) ∧ rt g e 7 = ep g (k - 5) else rt g e 7 = 0) then u_X21_shapes_283 u R e ((k : Int) + 1) 1 R else u_X21_shapes_283 u R e ((k : Int) + 1) 0 R) (ckR (fun x => ∃ t, x = .inl (t, [R, e + 1]) ∧ t = u) (fun f p x => ∃ r, x = .inr r ∧ cBD s R f p r) [(k = 8 ∨ if isM k = true then 0 < ep g (k - 5) ∧ rt g e 7 = ep g (k - 5) else rt g e 7 = 0, 17, rf g e 7), (rt g e 9 = eaO k, 17, rf g e 9)]) := by
      refine nd_if C h.1.1 (by rw [eu_X21_shapes_283]; unfold du_X21_shapes_283; rw [F 7 (by omega) (by omega), Option.bind_some]) (by rw [eu_X21_shapes_283]; unfold du_X21_shapes_283; rw [F 7 (by omega) (by omega), Option.bind_some]) Iff.rfl (fun q hq => hq.inr) fun _ => ?_
      dsimp only
      rw [T 9 (by omega) (by omega), Option.bind_some, ea_c' hk, Option.bind_some]
      refine nd_if C h.1.1 (by rw [eu_X21_shapes_317]; unfold du_X21_shapes_317; rw [F 9 (by omega) (by omega), Option.bind_some]) (by rw [eu_X21_shapes_317]; unfold du_X21_shapes_317; rw [F 9 (by omega) (by omega), Option.bind_some]) (L_cmp_0 _ _) (fun q hq => hq.inr) fun _ => jk_end ?_
      dsimp only
      rw [W32_in (by omega) (by omega)]
      exact jS_end ⟨u, rfl, rfl⟩
    have e283 : (if (k : Int) + 1 = 9 then u_X21_shapes_278 u R e ((k : Int) + 1) R else if nf = 0 then (m_X21_told u R e 7).bind fun v3 => if L_cmp v3 0 = 0 then u_X21_shapes_278 u R e ((k : Int) + 1) R else u_X21_shapes_282 u R e ((k : Int) + 1) R else (jlt u 1000 (R + 1) 12 nf).bind fun v4 => if 0 < v4 then (m_X21_told u R e 7).bind fun v5 => (jlt u 1000 (R + 1) 12 nf).bind fun v6 => if L_cmp v5 v6 = 0 then u_X21_shapes_278 u R e ((k : Int) + 1) R else u_X21_shapes_282 u R e ((k : Int) + 1) R else u_X21_shapes_282 u R e ((k : Int) + 1) R) = if (k = 8 ∨ if isM k = true then 0 < ep g (k - 5) ∧ rt g e 7 = ep g (k - 5) else rt g e 7 = 0) then u_X21_shapes_283 u R e ((k : Int) + 1) 1 R else u_X21_shapes_283 u R e ((k : Int) + 1) 0 R := by
      rw [e278, e282, T 7 (by omega) (by omega), Option.bind_some]
      by_cases c8 : k = 8
      · rw [if_pos (by omega), if_pos (.inl c8)]
      rw [if_neg (by omega)]
      by_cases cM : isM k = true
      · have hm := isM_i.mp cM
        rw [if_pos cM] at hnf
        rw [if_neg (by omega), hnf, show (k : Int) + 1 - 6 + 1 = ((k - 5 : Nat) : Int) + 1 by omega, A (k - 5) (by omega)]
        simp only [L_cmp_0, Option.bind_some, if_pos cM]
        by_cases c1 : 0 < ep g (k - 5)
        · rw [if_pos c1]
          by_cases c2 : rt g e 7 = ep g (k - 5)
          · rw [if_pos c2, if_pos (.inr ⟨c1, c2⟩)]
          · rw [if_neg c2, if_neg (fun z => z.elim c8 fun z => c2 z.2)]
        · rw [if_neg c1, if_neg (fun z => z.elim c8 fun z => c1 z.1)]
      · rw [if_neg cM] at hnf
        rw [if_pos hnf]
        simp only [L_cmp_0, if_neg cM]
        by_cases c2 : rt g e 7 = 0
        · rw [if_pos c2, if_pos (.inr c2)]
        · rw [if_neg c2, if_neg (fun z => z.elim c8 c2)]
    have l210 : jE (if (if isM k = true then 0 < ep g 8 ∧ rt g e 6 = ep g 8 else if k = 8 then 0 < ep g 9 ∧ rt g e 6 = ep g 9 else rt g e 6 = 0) then u_X21_shapes_210 u R e ((k : Int) + 1) nf 1 R else u_X21_shapes_210 u R e ((k : Int) + 1) nf 0 R) (ckR (fun x => ∃ t, x = .inl (t, [R, e + 1]) ∧ t = u) (fun f p x => ∃ r, x = .inr r ∧ cBD s R f p r) [(if isM k = true then 0 < ep g 8 ∧ rt g e 6 = ep g 8 else if k = 8 then 0 < ep g 9 ∧ rt g e 6 = ep g 9 else rt g e 6 = 0, 17, rf g e 6), (k = 8 ∨ if isM k = true then 0 < ep g (k - 5) ∧ rt g e 7 = ep g (k - 5) else rt g e 7 = 0, 17, rf g e 7), (rt g e 9 = eaO k, 17, rf g e 9)]) := by
      refine nd_if C h.1.1 (by rw [eu_X21_shapes_210]; unfold du_X21_shapes_210; rw [F 6 (by omega) (by omega), Option.bind_some]) (by rw [eu_X21_shapes_210]; unfold du_X21_shapes_210; rw [F 6 (by omega) (by omega), Option.bind_some]) Iff.rfl (fun q hq => hq.inr) fun _ => ?_
      dsimp only
      rw [e283]
      exact last
    have e210 : (if lk = 0 then (m_X21_told u R e 6).bind fun v3 => if L_cmp v3 0 = 0 then u_X21_shapes_210 u R e ((k : Int) + 1) nf 1 R else u_X21_shapes_210 u R e ((k : Int) + 1) nf 0 R else (jlt u 1000 (R + 1) 12 lk).bind fun v4 => if 0 < v4 then (m_X21_told u R e 6).bind fun v5 => (jlt u 1000 (R + 1) 12 lk).bind fun v6 => if L_cmp v5 v6 = 0 then u_X21_shapes_210 u R e ((k : Int) + 1) nf 1 R else u_X21_shapes_209 u R e ((k : Int) + 1) nf R else u_X21_shapes_209 u R e ((k : Int) + 1) nf R) = if (if isM k = true then 0 < ep g 8 ∧ rt g e 6 = ep g 8 else if k = 8 then 0 < ep g 9 ∧ rt g e 6 = ep g 9 else rt g e 6 = 0) then u_X21_shapes_210 u R e ((k : Int) + 1) nf 1 R else u_X21_shapes_210 u R e ((k : Int) + 1) nf 0 R := by
      rw [e209, T 6 (by omega) (by omega), Option.bind_some]
      by_cases cM : isM k = true
      · rw [if_pos cM] at hlk
        rw [if_neg (by omega), hlk, show (9 : Int) = ((8 : Nat) : Int) + 1 from rfl, A 8 (by omega)]
        simp only [L_cmp_0, Option.bind_some, if_pos cM]
        by_cases c1 : 0 < ep g 8
        · rw [if_pos c1]
          by_cases c2 : rt g e 6 = ep g 8
          · rw [if_pos c2, if_pos ⟨c1, c2⟩]
          · rw [if_neg c2, if_neg (fun z => c2 z.2)]
        · rw [if_neg c1, if_neg (fun z => c1 z.1)]
      · rw [if_neg cM] at hlk
        by_cases c8 : k = 8
        · rw [if_pos c8] at hlk
          rw [if_neg (by omega), hlk, show (10 : Int) = ((9 : Nat) : Int) + 1 from rfl, A 9 (by omega)]
          simp only [L_cmp_0, Option.bind_some, if_neg cM, if_pos c8]
          by_cases c1 : 0 < ep g 9
          · rw [if_pos c1]
            by_cases c2 : rt g e 6 = ep g 9
            · rw [if_pos c2, if_pos ⟨c1, c2⟩]
            · rw [if_neg c2, if_neg (fun z => c2 z.2)]
          · rw [if_neg c1, if_neg (fun z => c1 z.1)]
        · rw [if_neg c8] at hlk
          rw [if_pos hlk]
          simp only [L_cmp_0, if_neg cM, if_neg c8]
    rw [e210]
    exact l210
  have hmv : isM k = true → m_X13_isMoves u ((k : Int) + 1) = some 1 := fun z => isM1 (by have := isM_i.mp z; omega)
  have hmn : ¬ isM k = true → m_X13_isMoves u ((k : Int) + 1) = some 0 := fun z => by
    have : ¬ (5 ≤ k ∧ k < 8) := fun q => z (isM_i.mpr q)
    exact isM0 (by omega)
  simp only [eu_X21_shapes_41, du_X21_shapes_41]
  by_cases cM : isM k = true
  · have hm := isM_i.mp cM
    rw [hmv cM, Option.bind_some, if_neg (by decide), Option.bind_some, if_neg (by decide), W32_in (z := (k : Int) + 1 - 6) (by omega) (by omega), W32_in (by omega) (by omega)]
    exact go 9 _ (by rw [if_pos cM]) (by rw [if_pos cM])
  · rw [hmn cM, Option.bind_some, if_pos rfl]
    simp only [Option.bind_some, reduceIte]
    by_cases c8 : k = 8
    · rw [if_pos (by omega)]
      exact go 10 0 (by rw [if_neg cM, if_pos c8]) (by rw [if_neg cM])
    · rw [if_neg (by omega)]
      exact go 0 0 (by rw [if_neg cM, if_neg c8]) (by rw [if_neg cM])
theorem c_rules (C : rC s R B g n) (h : rH s u R B g n) (hd : Hd g n) (hN : Nm g) (hr : rN u R g) : jE (m_X21_shapes u R) (ckR (cOK fun t => t = u) (cBD s R) (Lrules g)) := by
  have hn := C.1.2.1
  unfold Lrules
  rw [em_X21_shapes]; unfold dm_X21_shapes
  rw [eu_X21_shapes_2]; unfold du_X21_shapes_2
  refine jk_for (Lrule g) (fun _ w => w = u) (fun k => [R, k]) 1 (RE g) hd.2.2.2.1 rfl (fun k w k0 k1 _ e => ?_) fun w e _ => ?_
  · subst e
    exact c_rule1 C h hd hN hr k0 k1
  · subst e
    show jE (b_X21_shapes_2 w R (RE g)) _
    unfold b_X21_shapes_2
    rw [h.2.2.1, if_neg (by omega), eu_X21_shapes_335]; unfold du_X21_shapes_335
    refine jS_inr (jE_mono (?_ : jE _ (ckR (cOK fun t => t = w) (cBD s R) _)) fun r hr => ⟨r, rfl, hr⟩)
    have h8 := hr.1 8 (by omega)
    have h9 := hr.1 9 (by omega)
    have h10 := hr.1 10 (by omega)
    rw [show ((8 : Nat) : Int) + 1 = 9 from rfl] at h8
    rw [show ((9 : Nat) : Int) + 1 = 10 from rfl] at h9
    rw [show ((10 : Nat) : Int) + 1 = 11 from rfl] at h10
    have e374 : u_X21_shapes_374 w R = u_X21_shapes_375 w 0 R := by rw [eu_X21_shapes_374]; rfl
    rw [jlt_in (by omega) (by omega), Option.bind_some, h8, jlt_in (by omega) (by omega), Option.bind_some, h9, jlt_in (by omega) (by omega), Option.bind_some, h10, e374, h.2.2.2]
    have e5 : (if 0 < ep g 8 then if 0 < ep g 9 then if ep g 10 = RN g then u_X21_shapes_375 w 1 R else u_X21_shapes_375 w 0 R else u_X21_shapes_375 w 0 R else u_X21_shapes_375 w 0 R) = if 0 < ep g 8 ∧ 0 < ep g 9 ∧ ep g 10 = RN g then u_X21_shapes_375 w 1 R else u_X21_shapes_375 w 0 R := by
      by_cases c1 : 0 < ep g 8 <;> by_cases c2 : 0 < ep g 9 <;> by_cases c3 : ep g 10 = RN g <;> simp only [c1, c2, c3, eq_self, and_false, false_and, and_true, true_and, if_true, if_false, reduceIte, Int.reduceEq, Int.reduceLT, Int.reduceLE, Int.reduceNeg, not_false_eq_true, Option.bind_some, jls]
    rw [e5]
    refine nd_if C h.1.1 (by rw [eu_X21_shapes_375]; rfl) (by rw [eu_X21_shapes_375]; rfl) Iff.rfl (fun q hq => hq.end) fun _ => jk_end ?_
    dsimp only
    exact jS_end ⟨rfl, rfl⟩
/-- what good rules tell -/
def Ru (g : Int → Int) : Prop := (∀ e, 1 ≤ e → e < RE g → rt g e 1 = srO (pt g e)) ∧ 0 < ep g 8 ∧ 0 < ep g 9 ∧ ep g 10 = RN g
theorem Ru_of (h : Gd (Lrules g)) : Ru g := by
  unfold Lrules at h
  rw [Gd_app, ckF_gd] at h
  refine ⟨fun e e0 e1 => ?_, (Gd_cons.mp h.2).1⟩
  have := h.1 e e0 e1
  unfold Lrule at this
  exact (Gd_cons.mp this).1
/-- a part that lies in the file -/
theorem In_of (hE : En g n) (hR : Ru g) {e : Int} (e0 : 1 ≤ e) (e1 : e < RE g) (h : ¬ pt g e = 3) : rt g e 4 + rt g e 5 ≤ n ∧ (rt g e 5 = 0 ∨ 52 ≤ rt g e 4) := by
  refine (hE e e0 e1).1 fun z => ?_
  rw [hR.1 e e0 e1] at z
  unfold srO at z
  rw [if_neg h] at z
  split at z
  · omega
  · split at z
    · omega
    · split at z <;> omega
theorem mvN_lo (C : rC s R B g n) (hd : Hd g n) (hE : En g n) (hR : Ru g) (m : Nat) (hm : (m : Int) ≤ RE g) : 0 ≤ mvN g m ∧ mvN g m ≤ 8192 * m := by
  have hn := C.1.2.1
  induction m with
  | zero => exact ⟨Int.le_refl _, Int.le_refl _⟩
  | succ m ih =>
    have := ih (by omega)
    show 0 ≤ mvN g m + _ ∧ mvN g m + _ ≤ _
    by_cases c : 1 ≤ m ∧ isM (pt g m) = true
    · have hm2 := isM_i.mp c.2
      have hi := In_of hE hR (e := m) (by omega) (by omega) (by omega)
      have w4 := rt_lo C hd (e := m) (k := 4) (by omega) (by omega) (by omega) (by omega)
      have w5 := rt_lo C hd (e := m) (k := 5) (by omega) (by omega) (by omega) (by omega)
      rw [if_pos c]; omega
    · rw [if_neg c]; omega
theorem c_sizes (C : rC s R B g n) (h : rH s u R B g n) (hd : Hd g n) (hN : Nm g) (hE : En g n) (hR : Ru g) (hr : rN u R g) : jE (m_X21_sizes u R) (ckR (cOK fun t => t = u) (cBD s R) (Lsizes g)) := by
  have hn := C.1.2.1
  have h16 := hd.2.2.2.2.1
  unfold Lsizes
  rw [em_X21_sizes]; unfold dm_X21_sizes
  rw [eu_X21_sizes_4]; unfold du_X21_sizes_4
  refine jE_mono (Q := ckR (cOK fun t => t = u) (cBD s R) (ckF (Lsize g) 1 (RE g) ++ Lstr g (ep g 9) 20)) ?_ fun _ q => q
  refine jk_for1 (Lsize g) (fun e z w => z = mvN g e.toNat ∧ w = u) (fun e z => [R, z, e]) 1 (RE g) hd.2.2.2.1 ⟨rfl, rfl⟩ (fun e z w k0 k1 _ ⟨ez, ew⟩ => ?_) fun z w ⟨ez, ew⟩ _ => ?_
  · subst ew
    show jE (b_X21_sizes_4 w R z e) _
    unfold b_X21_sizes_4 Lsize
    have hk := (hN e k0 k1).2.1.1
    have v5 := rt_lo C hd (e := e) (k := 5) (by omega) k1 (by omega) (by omega)
    have hF := g_field h hd hn (e := e) (k := 5) (by omega) k1 (by omega) (by omega)
    have hm := mvN_lo C hd hE hR e.toNat (by omega)
    have hs : mvN g (e + 1).toNat = z + if isM (pt g e) = true then rt g e 5 else 0 := by
      rw [show (e + 1).toNat = e.toNat + 1 by omega, ez]
      show mvN g e.toNat + (if 1 ≤ e.toNat ∧ isM (pt g e.toNat) = true then rt g e.toNat 5 else 0) = _
      rw [show ((e.toNat : Nat) : Int) = e by omega]
      by_cases c : isM (pt g e) = true
      · rw [if_pos c, if_pos ⟨by omega, c⟩]
      · rw [if_neg c, if_neg (fun q => c q.2)]
    rw [h.2.2.1, if_pos k1, jlt_in (by omega) (by omega), Option.bind_some, hr.2 e k0 k1, g_told C h hd (by omega) k1 (by omega) (by omega), Option.bind_some]
    -- the question, and what is behind it
    have e202 : ∀ x7 z', u_X21_sizes_202 w R z' e x7 = (m_X21_need w R x7 19 (rf g e 5)).bind fun q2 => jth q2.2.1 (jinr (some (q2.1, true, q2.2.2))) <| some (.inl (q2.1, [R, z', W32 (e + 1)])) := fun x7 z' => by
      rw [eu_X21_sizes_202]; unfold du_X21_sizes_202
      rw [hF, Option.bind_some]
    have go : ∀ (c : Prop) x7 z', (x7 = 0 ∨ x7 = 1) → (x7 = 1 ↔ c) → (c → z' = mvN g (e + 1).toNat) → jE (u_X21_sizes_202 w R z' e x7) (ckR (fun x => ∃ t z', x = .inl (t, [R, z', e + 1]) ∧ z' = mvN g (e + 1).toNat ∧ t = w) (fun f p x => ∃ r, x = .inr r ∧ cBD s R f p r) [(c, 19, rf g e 5)]) := by
      intro c x7 z' h01 hc hz
      rw [e202]
      refine nd_x C h.1.1 h01 hc (fun q hq => hq.inr) fun hc' => jk_end ?_
      dsimp only
      rw [W32_in (by omega) (by omega)]
      exact jS_end ⟨w, z', rfl, hz hc', rfl⟩
    simp only [eu_X21_sizes_51, du_X21_sizes_51, eu_X21_sizes_76, du_X21_sizes_76, eu_X21_sizes_111, du_X21_sizes_111, eu_X21_sizes_112, du_X21_sizes_112, eu_X21_sizes_153, du_X21_sizes_153, eu_X21_sizes_154, du_X21_sizes_154, eu_X21_sizes_199, du_X21_sizes_199, eu_X21_sizes_200, du_X21_sizes_200, L_cmp_gt, L_cmp_lt, L_cmp_0, jlet]
    have r2' : L_rem (rt g e 5) 2 = rt g e 5 % 2 := L_rem_n (by omega) (by omega) (by omega) (by omega)
    have r12 : L_rem (rt g e 5) 12 = rt g e 5 % 12 := L_rem_n (by omega) (by omega) (by omega) (by omega)
    have r16 : L_rem (rt g e 5) 16 = rt g e 5 % 16 := L_rem_n (by omega) (by omega) (by omega) (by omega)
    rw [r2', r12, r16]
    generalize hkk : pt g e = k at *
    by_cases c3 : k < 3
    · have cM : ¬ isM k = true := fun q => by have := isM_i.mp q; omega
      rw [if_neg cM] at hs
      rw [if_pos (by omega), if_pos c3]
      by_cases c : 2048 < rt g e 5
      · rw [if_pos c]; exact go _ 0 z (.inl rfl) (by omega) fun _ => by omega
      · rw [if_neg c]; exact go _ 1 z (.inr rfl) (by omega) fun _ => by omega
    rw [if_neg (by omega), if_neg c3]
    by_cases c3' : k = 3
    · have cM : ¬ isM k = true := fun q => by have := isM_i.mp q; omega
      rw [if_neg cM] at hs
      rw [if_pos (by omega), if_pos c3']
      by_cases c : 4096 < rt g e 5
      · rw [if_pos c]; exact go _ 0 z (.inl rfl) (by omega) fun _ => by omega
      · rw [if_neg c]; exact go _ 1 z (.inr rfl) (by omega) fun _ => by omega
    rw [if_neg (by omega), if_neg c3']
    by_cases c4 : k = 4
    · have cM : ¬ isM k = true := fun q => by have := isM_i.mp q; omega
      rw [if_neg cM] at hs
      rw [if_pos (by omega), if_pos c4, jdv_in (by decide), Option.bind_some]
      by_cases c : rt g e 5 % 2 = 0
      · rw [if_pos c]
        by_cases c' : 2048 < rt g e 5
        · rw [if_pos c']; exact go _ 0 z (.inl rfl) (by omega) fun _ => by omega
        · rw [if_neg c']; exact go _ 1 z (.inr rfl) (by omega) fun _ => by omega
      · rw [if_neg c]; exact go _ 0 z (.inl rfl) (by omega) fun _ => by omega
    rw [if_neg (by omega), if_neg c4]
    by_cases cM : isM k = true
    · have hm2 := isM_i.mp cM
      have hi := In_of hE hR (e := e) k0 k1 (by omega)
      have w4 := rt_lo C hd (e := e) (k := 4) (by omega) k1 (by omega) (by omega)
      rw [if_pos cM] at hs
      rw [isM1 (by omega), Option.bind_some, if_neg (by decide), if_pos cM, jdv_in (by decide), Option.bind_some, W64_in (by omega) (by omega)]
      by_cases c : rt g e 5 % 12 = 0
      · rw [if_pos c]
        by_cases c' : 3600 < z + rt g e 5
        · rw [if_pos c']; exact go _ 0 _ (.inl rfl) (by omega) fun _ => by omega
        · rw [if_neg c']; exact go _ 1 _ (.inr rfl) (by omega) fun _ => by omega
      · rw [if_neg c]; exact go _ 0 _ (.inl rfl) (by omega) fun _ => by omega
    have hm2 : ¬ (5 ≤ k ∧ k < 8) := fun q => cM (isM_i.mpr q)
    rw [if_neg cM] at hs
    rw [isM0 (by omega), Option.bind_some, if_pos rfl, if_neg cM]
    by_cases c8 : k = 8
    · rw [if_pos (by omega), if_pos c8, jdv_in (by decide), Option.bind_some]
      by_cases c : rt g e 5 % 16 = 0
      · rw [if_pos c]
        by_cases c' : rt g e 5 < 16
        · rw [if_pos c']; exact go _ 0 z (.inl rfl) (by omega) fun _ => by omega
        · rw [if_neg c']
          by_cases c'' : 1616 < rt g e 5
          · rw [if_pos c'']; exact go _ 0 z (.inl rfl) (by omega) fun _ => by omega
          · rw [if_neg c'']; exact go _ 1 z (.inr rfl) (by omega) fun _ => by omega
      · rw [if_neg c]; exact go _ 0 z (.inl rfl) (by omega) fun _ => by omega
    · rw [if_neg (by omega), if_neg c8]
      exact go True 1 z (.inr rfl) ⟨fun _ => trivial, fun _ => rfl⟩ fun _ => by omega
  · subst ew
    show jE (b_X21_sizes_4 w R z (RE g)) _
    unfold b_X21_sizes_4
    rw [h.2.2.1, if_neg (by omega), eu_X21_sizes_222]; unfold du_X21_sizes_222
    refine jS_inr (jE_mono (?_ : jE _ (ckR (cOK fun t => t = w) (cBD s R) _)) fun r hr => ⟨r, rfl, hr⟩)
    have h9 := hr.1 9 (by omega)
    rw [show ((9 : Nat) : Int) + 1 = 10 from rfl] at h9
    have hp := hR.2.2.1
    have hc : 1 ≤ ep g 9 ∧ ep g 9 < RE g ∧ pt g (ep g 9) = 9 := by
      rcases ep_cases hN 9 with q | q
      · omega
      · exact q
    have hi := In_of hE hR hc.1 hc.2.1 (by omega)
    rw [jlt_in (by omega) (by omega), Option.bind_some, h9]
    obtain ⟨q, eq, hq⟩ := c_strs (f := 20) C h hd hc.1 hc.2.1 hi
    rw [eq, Option.bind_some]
    rcases hq with ⟨hg, q1, q2⟩ | ⟨f, p, hf, hb⟩
    · rw [q1]
      exact jS_end (.inl ⟨hg, rfl, q2⟩)
    · rw [show q.2.1 = true from hb.1]
      exact jS_end (.inr ⟨f, p, hf, rfl, hb.2⟩)
end jCread4
