/-! the linker: one relocation as a whole, both sides *-/
set_option maxRecDepth 100000
section jLrl
variable {s t u u1 u2 w w' s' t' t1 : jS} {a b k m mm n nn o p q v l x c f g i j A H C K S X X' P Q V D F M rr n' sec wd r how val q0 kd wc wt sz Y y0 h' : Int} {O : Int → Int → Int → Int → Int} {d e z y : Int → Int → Int} {G B : Int → Int}
/-- pieces of a relocation that says nothing -/
theorem rlS.idle (h : rlS C H S O s t e d z G) (x0 : 0 ≤ x) (x1 : x < 6) (j0 : 0 ≤ j) (j3 : j < 300) (hk : O x 5 j 2 = 51 ∨ O x 5 j 2 = 43 ∧ O x 5 j 4 = 0) : ∀ k, 0 ≤ k → k < d 0 1 → ¬ d 5 k = 0 → z 2 k = 300 * x + j → szK d k (plK d k) = 0 := fun k k0 k1 _ hz => by
  rcases (h.1.2.2.2.2.1.1.2.2 k k0 k1).2 with ⟨q, -⟩ | ⟨z3, i, ⟨i0, i1, i2⟩, q5, tk, -⟩
  · omega
  · have e1 : z 3 k = x := by omega
    have e2 : i = j := by omega
    rw [e1, e2] at tk
    obtain ⟨-, tk⟩ := tk
    omega
theorem outI.st (h : outI C H O s t d z n) (hF : ∀ o p, cBy u C o p = cBy s C o p) (hG : ∀ o p, tBy w H o p = tBy t H o p) : outI C H O u w d z n := h.no (Int.le_refl _) (fun o p _ _ => hF o p) (fun o p _ _ _ _ => hG o p) fun k _ _ _ h1 h2 => absurd h1 h2
/-- the twin behind its head -/
theorem t_rel30 (hu : tUn t H x (O x)) (vo : vOb (O x)) (x0 : 0 ≤ x) (x1 : x < 6) (j0 : 0 ≤ j) (j1 : j < O x 2 2 0) (h51 : ¬ O x 5 j 2 = 51) (h43 : ¬ (O x 5 j 2 = 43 ∧ O x 5 j 4 = 0)) : m_X37_relocate t H (300 * x + j) = u_X37_relocate_30 t H (300 * x + j) (O x 5 j 2) := by
  obtain ⟨-, -, t2, -, t4⟩ := t_relr hu j0 j1
  have n3 := vo.2.2.1.2.2.2.2.2
  rw [em_X37_relocate]; unfold dm_X37_relocate
  rw [jlt_in (by omega) (by omega), Option.bind_some, t2, if_neg h51]
  by_cases c : O x 5 j 2 = 43
  · rw [if_pos c, jlt_in (by omega) (by omega), Option.bind_some, t4, if_neg (fun q => h43 ⟨c, q⟩)]
  · rw [if_neg c]
/-- by its kind -/
theorem x_relK (rm : rmS C H S O s t e d z G x j (O x 5 j 0) A K P) (o3 : outI C H O s t d z (300 * x + j)) (rg : rgP d z (300 * x + j) k (O x 5 j 0) A m) (fl : flR C H O s t x F) (hb : jBd s 1 6) (x0 : 0 ≤ x) (x1 : x < 6) (hS : sIn S x) (j0 : 0 ≤ j) (j1 : j < O x 2 2 0) (k51 : ¬ O x 5 j 2 = 51) (k43 : ¬ O x 5 j 2 = 43) (b0 : 0 ≤ A) (mz : 0 ≤ m) (b1 : A + m ≤ 4096) (hP : -10000000 ≤ P ∧ P ≤ 10000000)
    (hw : (K = -1 ∧ m = kW (O x 5 j 2) (O x 5 j 4) ∧ ∀ i, 0 ≤ i → i < m → (0 ≤ tBy t H (O x 5 j 0) (A + i) ∧ tBy t H (O x 5 j 0) (A + i) < 256) ∧ cBy s C (O x 5 j 0) (A + i) = sb (tBy t H (O x 5 j 0) (A + i))) ∨ ((0 ≤ K ∧ K < d 0 1) ∧ z 2 K = 300 * x + j ∧ z 3 K = x ∧ O x 5 j 1 = z 0 K ∧ z 1 K = kW (O x 5 j 2) (O x 5 j 4) ∧ d 5 K = srT (O x 5 j 2) ∧ m = szK d K (plK d K) ∧ P = plK d K ∧ tkP (O x) j ∧ (mvK d K → m = z 1 K → ∀ i, 0 ≤ i → i < m → cBy s C 0 (A + i) = sb (O x 0 0 (O x 5 j 1 + i))))) :
    ∃ r q, relT s (C + 4275) (rlA (fAt C x + 614) j) (kW (O x 5 j 2) (O x 5 j 4)) (O x 5 j 0) = some r ∧ (if O x 5 j 2 = 24 then u_X37_relocate_93 t H (300 * x + j) (O x 5 j 2) else if O x 5 j 2 = 25 then u_X37_relocate_93 t H (300 * x + j) (O x 5 j 2) else u_X37_relocate_128 t H (300 * x + j) (O x 5 j 2) (-1)) = some q ∧ rlE C H O s t d z (300 * x + j) r q := by
  obtain ⟨-, -, hut, vo, g, j3⟩ := rm.1.rl x0 x1 hS j0 j1
  have m0 := (rel_lo vo g j0 j1).1
  have kk := (vo.2.2.2.2.2 j j0 j1).2.2.2.2.1
  have g1 := (g.2.2 j j0 j1).1
  have v := rm.1.1.1
  obtain ⟨kd, hkd⟩ : ∃ kd, kd = O x 5 j 2 := ⟨_, rfl⟩
  have fin : ∀ r q, relT s (C + 4275) (rlA (fAt C x + 614) j) (kW (O x 5 j 2) (O x 5 j 4)) (O x 5 j 0) = some r → (if O x 5 j 2 = 24 then u_X37_relocate_93 t H (300 * x + j) (O x 5 j 2) else if O x 5 j 2 = 25 then u_X37_relocate_93 t H (300 * x + j) (O x 5 j 2) else u_X37_relocate_128 t H (300 * x + j) (O x 5 j 2) (-1)) = some q → rwE C H s t (O x 5 j 0) A m r q → ∃ r q, relT s (C + 4275) (rlA (fAt C x + 614) j) (kW (O x 5 j 2) (O x 5 j 4)) (O x 5 j 0) = some r ∧ (if O x 5 j 2 = 24 then u_X37_relocate_93 t H (300 * x + j) (O x 5 j 2) else if O x 5 j 2 = 25 then u_X37_relocate_93 t H (300 * x + j) (O x 5 j 2) else u_X37_relocate_128 t H (300 * x + j) (O x 5 j 2) (-1)) = some q ∧ rlE C H O s t d z (300 * x + j) r q := fun r q q1 q2 hq => ⟨r, q, q1, q2, hq.out o3 v rg⟩
  have e128 : ¬ O x 5 j 2 = 24 → ¬ O x 5 j 2 = 25 → (if O x 5 j 2 = 24 then u_X37_relocate_93 t H (300 * x + j) (O x 5 j 2) else if O x 5 j 2 = 25 then u_X37_relocate_93 t H (300 * x + j) (O x 5 j 2) else u_X37_relocate_128 t H (300 * x + j) (O x 5 j 2) (-1)) = u_X37_relocate_128 t H (300 * x + j) (O x 5 j 2) (-1) := fun c c' => by rw [if_neg c, if_neg c']
  have pl : ¬ (O x 5 j 2 = 19 ∨ O x 5 j 2 = 23 ∨ O x 5 j 2 = 26) → K = -1 ∧ m = kW (O x 5 j 2) (O x 5 j 4) ∧ ∀ i, 0 ≤ i → i < m → (0 ≤ tBy t H (O x 5 j 0) (A + i) ∧ tBy t H (O x 5 j 0) (A + i) < 256) ∧ cBy s C (O x 5 j 0) (A + i) = sb (tBy t H (O x 5 j 0) (A + i)) := fun c => by
    rcases hw with q | ⟨-, -, -, -, -, -, -, -, ⟨-, tk⟩, -⟩
    · exact q
    · rcases tk with z1 | z1
      · exact absurd z1.1 k43
      · exact absurd z1.1 c
  by_cases ks : O x 5 j 2 = 1 ∨ O x 5 j 2 = 33 ∨ O x 5 j 2 = 34 ∨ O x 5 j 2 = 35 ∨ O x 5 j 2 = 37 ∨ O x 5 j 2 = 38 ∨ O x 5 j 2 = 39
  · obtain ⟨pK, pm, pB⟩ := pl (by clear hw fin; omega)
    clear hw
    subst pK
    obtain ⟨r, q, q1, q2, q3⟩ := x_sum (m := kW (O x 5 j 2) (O x 5 j 4)) (q0 := -1) rm x0 x1 hS j0 j1 ⟨m0.1, by omega⟩ ks b0 (by omega) (by rw [← pm]; exact pB)
    exact fin r q q1 (by rw [e128 (by omega) (by omega)]; exact q2) (by rw [pm]; exact q3)
  have sec0 : O x 5 j 0 = 0 := by clear hw fin pl; unfold kOK at kk; omega
  rw [sec0] at rm hw pl fin ⊢
  have wk : wkR C H O s t d z x j A K P m := ⟨⟨mz, b0, b1⟩, hP, hw⟩
  clear hw
  have kr : O x 5 j 2 = 16 ∨ O x 5 j 2 = 17 ∨ O x 5 j 2 = 44 ∨ O x 5 j 2 = 45 ∨ O x 5 j 2 = 19 ∨ O x 5 j 2 = 23 ∨ O x 5 j 2 = 24 ∨ O x 5 j 2 = 25 ∨ O x 5 j 2 = 26 ∨ O x 5 j 2 = 27 ∨ O x 5 j 2 = 28 := by unfold kOK at kk; omega
  by_cases k1' : O x 5 j 2 = 16 ∨ O x 5 j 2 = 17 ∨ O x 5 j 2 = 44 ∨ O x 5 j 2 = 45
  · obtain ⟨pK, pm, pB⟩ := pl (by omega)
    subst pK
    obtain ⟨r, q, q1, q2, q3⟩ := x_brs (m := kW (O x 5 j 2) (O x 5 j 4)) (q0 := -1) rm hb x0 x1 hS j0 j1 k1' b0 (by omega) hP (by rw [← pm]; exact pB)
    exact fin r q q1 (by rw [e128 (by omega) (by omega)]; exact q2) (by rw [pm]; exact q3)
  by_cases k2 : O x 5 j 2 = 19
  · obtain ⟨r, q, q1, q2, q3⟩ := x_callR (mm := kW (O x 5 j 2) (O x 5 j 4)) (q0 := -1) rm wk hb x0 x1 hS j0 j1 k2
    exact fin r q q1 (by rw [e128 (by omega) (by omega)]; exact q2) q3
  by_cases k3 : O x 5 j 2 = 23
  · obtain ⟨r, q, q1, q2, q3⟩ := x_near (mm := kW (O x 5 j 2) (O x 5 j 4)) (q0 := -1) rm wk hb x0 x1 hS j0 j1 k3
    exact fin r q q1 (by rw [e128 (by omega) (by omega)]; exact q2) q3
  by_cases k4 : O x 5 j 2 = 26
  · obtain ⟨r, q, q1, q2, q3⟩ := x_upper (mm := kW (O x 5 j 2) (O x 5 j 4)) (q0 := -1) rm wk hb x0 x1 hS j0 j1 k4
    exact fin r q q1 (by rw [e128 (by omega) (by omega)]; exact q2) q3
  obtain ⟨pK, pm, pB⟩ := pl (by omega)
  subst pK
  by_cases k5 : O x 5 j 2 = 27 ∨ O x 5 j 2 = 28
  · obtain ⟨r, q, q1, q2, q3⟩ := x_low (mm := kW (O x 5 j 2) (O x 5 j 4)) (q0 := -1) rm wk fl hb x0 x1 hS j0 j1 k5
    exact fin r q q1 (by rw [e128 (by omega) (by omega)]; exact q2) q3
  · have k6 : O x 5 j 2 = 24 ∨ O x 5 j 2 = 25 := by omega
    obtain ⟨r, q, q1, q2, q3⟩ := x_rest (mm := kW (O x 5 j 2) (O x 5 j 4)) rm wk hb x0 x1 hS j0 j1 k6
    refine fin r q q1 ?_ q3
    rcases k6 with c | c
    · rw [if_pos c]; exact q2
    · rw [if_neg (by omega), if_pos c]; exact q2
theorem x_rel (h : rlS C H S O s t e d z G) (ho : outI C H O s t d z (300 * x + j)) (fl : flR C H O s t x F) (hb : jBd s 1 6) (x0 : 0 ≤ x) (x1 : x < 6) (hS : sIn S x) (j0 : 0 ≤ j) (j1 : j < O x 2 2 0) (hu : jf s 39 (C + 4275) 35 = x) (hk : jf s 39 (C + 4275) 36 = j) (ht : jf t 41 H 113 = x) : ∃ r q, m_X35_relocate s (C + 4275) (rlA (fAt C x + 614) j) = some r ∧ m_X37_relocate t H (300 * x + j) = some q ∧ rlE C H O s t d z (300 * x + j) r q := by
  obtain ⟨⟨r0, r1⟩, ⟨l0, l1, l2, l3, l4⟩, hut, vo, g, j3⟩ := h.rl x0 x1 hS j0 j1
  obtain ⟨m0, m1, m2, m3, m4⟩ := rel_lo vo g j0 j1
  obtain ⟨-, -, t2, -, t4⟩ := t_relr hut j0 j1
  have kk := (vo.2.2.2.2.2 j j0 j1).2.2.2.2.1
  have v := h.1.1
  have v1 := v.2.1
  -- nothing to be done
  by_cases c0 : O x 5 j 2 = 51 ∨ O x 5 j 2 = 43 ∧ O x 5 j 4 = 0
  · refine ⟨(s, false, 0), (t, 1), ?_, ?_, .inr ⟨rfl, rfl, .rfl, .rfl, ho.skip (fun _ _ _ _ => rfl) (fun _ _ _ _ _ _ => rfl) (h.idle x0 x1 j0 j3 c0)⟩⟩
    · rw [em_X35_relocate]; unfold dm_X35_relocate
      rw [jrd_in r0 r1, jrd_in r0 r1, l2, l4, Option.bind_some]
      rcases c0 with c | ⟨c, c'⟩
      · rw [if_pos c]
      · rw [if_neg (by omega), Option.bind_some, if_pos c, Option.bind_some, if_pos c']
    · rw [em_X37_relocate]; unfold dm_X37_relocate
      rw [jlt_in (by omega) (by omega), Option.bind_some, t2, Wz_1]
      rcases c0 with c | ⟨c, c'⟩
      · rw [if_pos c]
      · rw [if_neg (by omega), if_pos c, jlt_in (by omega) (by omega), Option.bind_some, t4, if_pos c']
  have h51 : ¬ O x 5 j 2 = 51 := fun q => c0 (.inl q)
  have h43 : ¬ (O x 5 j 2 = 43 ∧ O x 5 j 4 = 0) := fun q => c0 (.inr q)
  obtain ⟨k, ⟨k0, k1⟩, a1, e11, eo, e1, e2, e27, e203, ow, own, uni⟩ := x_own h x0 x1 hS j0 j1
  obtain ⟨b1, b2, b3⟩ := c_headR h x0 x1 hS j0 j1 hu hk h51 h43 k0 k1 a1 e1 e27 ow
  have hk3 : z 2 k = 300 * x + j → ¬ d 5 k = 0 := fun q => by
    rw [(own q).2.2.2.1]; unfold srT
    split
    · decide
    split
    · decide
    split <;> decide
  obtain ⟨d1, d2⟩ := t_headR h x0 x1 hS j0 j1 ht h51 k0 k1 a1 e203 fun q => ⟨(own q).2.1, hk3 q⟩
  have e30 := t_rel30 hut vo x0 x1 j0 j1 h51 h43
  by_cases gd : gdR O d z x j k
  rotate_left
  · obtain ⟨s1, R1, f1⟩ := b1 gd
    obtain ⟨t1, T1, g1⟩ := d1 gd
    obtain ⟨u, e', w, q1, q2, hx, -⟩ := rl_bad (f := 7) (h.rw R1.rw T1.rw) (hb.sm R1.1) (by rw [R1.2 _ _ _ (by omega)]; exact hu) (by rw [R1.2 _ _ _ (by omega)]; exact hk) (by rw [T1.2 _ _ _ (by omega)]; exact ht) x0 x1 j0 j3 (by decide)
    refine ⟨(u, true, e'), (w, 0), f1 u e' q1, ?_, .inl ⟨rfl, hx.rs R1.rw T1.rw⟩⟩
    rw [e30, eu_X37_relocate_30]; unfold du_X37_relocate_30
    rw [g1 w q2, Option.bind_some, if_pos rfl, Wz_0]
  obtain ⟨t1, T1, tb, ⟨g114, g115, g116⟩, g1⟩ := d2 gd
  obtain ⟨s0, s1, s2⟩ := h.1.spot k0 k1 (by rw [eo]; omega)
  rw [eo] at s0 s2
  have hI := h.1.2.2.2.2.1.1.2.2 k k0 k1
  have pU := fun k' (a : 0 ≤ k') (b : k' < d 0 1) => (h.1.2.2.2.2.1.2.2 k' a b).1
  have pb := plV_lo v hI k0 k1 m1 (show O x 5 j 1 ≤ 4096 by omega)
  have own0 : z 2 k = 300 * x + j → O x 5 j 0 = 0 := fun q => (own q).1.1
  have plo : z 2 k = 300 * x + j → plV d z k (O x 5 j 1) = plK d k := fun q => by
    unfold plV
    rw [if_neg (hk3 q), if_pos (own q).2.1]
  -- where its bytes lie
  obtain ⟨m, hm⟩ : ∃ m, m = if z 2 k = 300 * x + j then szK d k (plK d k) else kW (O x 5 j 2) (O x 5 j 4) := ⟨_, rfl⟩
  obtain ⟨A, hA⟩ : ∃ A, A = plV d z k (O x 5 j 1) - ouB d (O x 5 j 0) := ⟨_, rfl⟩
  have rg : rgP d z (300 * x + j) k (O x 5 j 0) A m := by
    refine ⟨⟨k0, k1⟩, eo, ?_, fun k' k0' k1' k5 => (pU k' k0' k1' k5).1, ?_⟩
    · by_cases c : z 2 k = 300 * x + j
      · rw [if_pos c] at hm
        rw [hA, plo c, hm]; omega
      · rw [if_neg c] at hm
        rcases gd with q | ⟨q, q'⟩
        · exact absurd q c
        · have a2 := a1.2.1
          have e6 : szK d k (plK d k) = z 1 k := by
            unfold szK
            rw [if_pos q]
            rcases hI.2 with ⟨-, -, z6⟩ | ⟨-, i, ⟨-, -, -⟩, -, -, -, -, w5, -⟩
            · exact z6
            · exfalso
              rw [q] at w5
              unfold srT at w5
              split at w5
              · exact absurd w5 (by decide)
              split at w5
              · exact absurd w5 (by decide)
              split at w5 <;> exact absurd w5 (by decide)
          have ep : plV d z k (O x 5 j 1) = plK d k + (O x 5 j 1 - z 0 k) := by unfold plV; rw [if_pos q]
          rw [hA, ep, hm, e6]; omega
    · by_cases c : z 2 k = 300 * x + j
      · rw [if_pos c] at hm
        exact .inr ⟨c, own0 c, uni, by rw [hA, plo c], hm⟩
      · rcases gd with q | q
        · exact absurd q c
        · exact .inl ⟨q.1, fun k' k0' k1' _ hz => by
            have := uni k' k0' k1' hz
            rw [this] at hz; exact c hz⟩
  have mz : 0 ≤ m := by rw [hm]; split <;> omega
  obtain ⟨-, -, ⟨A1, A2⟩, -⟩ := id rg
  have ob1 : ∀ {u : jS}, (∀ o p, cBy u C o p = cBy s C o p) → outI C H O u t1 d z (300 * x + j) := fun hF => ho.st hF tb
  by_cases o43 : z 2 k = 300 * x + j ∧ O x 5 j 2 = 43
  · -- an alignment of its own
    obtain ⟨s1', R1, by1, f1⟩ := b2 gd o43.1 o43.2
    have c := o43.1
    have sec0 := own0 c
    rw [if_pos c] at hm g114
    rw [sec0] at A1 A2 hA g115 rg s0 s2
    have h1 := h.rw R1.rw T1.rw
    have d4 : d 5 k = 4 := by rw [(own c).2.2.2.1, o43.2]; rfl
    have eA : A = plK d k - ouB d 0 := by rw [hA, plo c]
    obtain ⟨w, q1, q2⟩ := x_nopO (C := C) (s := s1') (t := t1) (H := H) (A := A) (n := m) (by rw [g115, hA]) (by omega) mz (by omega) fun i i0 i1 => by
      rw [by1, eA, hm]
      exact ho.2.1 k k0 k1 d4 (by omega) i i0 (by rw [← hm]; exact i1)
    have J13 : jlt t1 1000 (H + 93 + 13) 256 (jf t1 41 H 114) = some m := by
      rw [g114, jlt_in k0 (by omega), h1.1.2.2.1.1.sz h1.1.2.2.1.2 v k0 k1, hm]
    refine ⟨(s1', false, 0), (w, 1), f1, ?_, rlE.pre (.inr ⟨rfl, rfl, q2.1, q2.2.1, q2.out (ob1 by1) v rg⟩) R1 T1⟩
    rw [e30, eu_X37_relocate_30]; unfold du_X37_relocate_30
    rw [g1, Option.bind_some, if_neg n10, if_pos o43.2]
    dsimp only
    rw [J13, g114, if_neg (by omega), Option.bind_some, eu_X37_relocate_76]; unfold du_X37_relocate_76
    rw [q1, Option.bind_some, Wz_1]
  obtain ⟨s3, R3, by3, ⟨p37, p38, p41⟩, f3⟩ := b3 gd o43
  have h3 := h.rw R3.rw T1.rw
  have o3 := ob1 by3
  obtain ⟨K, hK⟩ : ∃ K, K = if z 2 k = 300 * x + j then k else -1 := ⟨_, rfl⟩
  obtain ⟨P, hP⟩ : ∃ P, P = plV d z k (O x 5 j 1) := ⟨_, rfl⟩
  rw [← hK] at g114 p37
  rw [← hP] at g116 p41 pb
  rw [← hA] at g115 p38
  have rm : rmS C H S O s3 t1 e d z G x j (O x 5 j 0) A K P := ⟨h3, ⟨⟨by rw [R3.2 _ _ _ (by omega)]; exact hu, by rw [R3.2 _ _ _ (by omega)]; exact hk, p38⟩, by rw [T1.2 _ _ _ (by omega)]; exact ht, g115⟩, ⟨p37, p41⟩, g114, g116⟩
  have hb3 := hb.sm R3.1
  have fl3 := fl.rs R3 T1
  have e30' : u_X37_relocate_30 t H (300 * x + j) (O x 5 j 2) = if O x 5 j 2 = 43 then (if K = -1 then u_X37_relocate_76 t1 (O x 5 j 4) H else (jlt t1 1000 (H + 93 + 13) 256 K).bind fun v3 => u_X37_relocate_76 t1 v3 H) else if O x 5 j 2 = 24 then u_X37_relocate_93 t1 H (300 * x + j) (O x 5 j 2) else if O x 5 j 2 = 25 then u_X37_relocate_93 t1 H (300 * x + j) (O x 5 j 2) else u_X37_relocate_128 t1 H (300 * x + j) (O x 5 j 2) (-1) := by
    obtain ⟨-, -, hut1, -⟩ := h3.rl x0 x1 hS j0 j1
    obtain ⟨-, -, -, -, u4⟩ := t_relr hut1 j0 j1
    rw [eu_X37_relocate_30]; unfold du_X37_relocate_30
    rw [g1, Option.bind_some, if_neg n10]
    dsimp only
    rw [g114, jlt_in (by omega) (by omega), Option.bind_some, u4]
    by_cases c : O x 5 j 2 = 43
    · rw [if_pos c, if_pos c]
    rw [if_neg c, if_neg c]
    by_cases c24 : O x 5 j 2 = 24
    · rw [if_pos c24, if_pos c24]
    rw [if_neg c24, if_neg c24]
    by_cases c25 : O x 5 j 2 = 25
    · rw [if_pos c25, if_pos c25]
    rw [if_neg c25, if_neg c25, eu_X37_relocate_102]; unfold du_X37_relocate_102
    rw [if_neg c24, if_neg c25]
  -- plain bytes
  have pl : ¬ z 2 k = 300 * x + j → K = -1 ∧ m = kW (O x 5 j 2) (O x 5 j 4) ∧ ∀ i, 0 ≤ i → i < m → (0 ≤ tBy t1 H (O x 5 j 0) (A + i) ∧ tBy t1 H (O x 5 j 0) (A + i) < 256) ∧ cBy s3 C (O x 5 j 0) (A + i) = sb (tBy t1 H (O x 5 j 0) (A + i)) := fun c => by
    rw [if_neg c] at hm hK
    refine ⟨hK, hm, ?_⟩
    rcases gd with q | q
    · exact absurd q c
    · exact o3.rd v rg q.1 m0.1 (by omega) (by omega) (by omega)
  by_cases k43 : O x 5 j 2 = 43
  · -- an alignment in a plain piece
    have c : ¬ z 2 k = 300 * x + j := fun q => o43 ⟨q, k43⟩
    obtain ⟨pK, pm, -⟩ := pl c
    have sec0 : O x 5 j 0 = 0 := by have := (g.2.2 j j0 j1).1; omega
    have km : kW (O x 5 j 2) (O x 5 j 4) = O x 5 j 4 := by rw [k43]; rfl
    rw [sec0] at A1 A2 f3 rm rg s0 s2 g115
    obtain ⟨u, w, q1, q2, q3⟩ := x_nopP (l := C + 4275) (n := m) h3.2.2.2 p38 (by rw [g115]) (by omega) mz (by omega)
    obtain ⟨⟨y0, y1⟩, ⟨-, -, y2, -⟩, -⟩ := h3.rl x0 x1 hS j0 j1
    refine ⟨(u, false, 0), (w, 1), ?_, ?_, rlE.pre (.inr ⟨rfl, rfl, q3.1, q3.2.1, q3.out o3 v rg⟩) R3 T1⟩
    · rw [f3]; unfold relT
      rw [jrd_in y0 y1, Option.bind_some, y2, if_pos k43, jix_in (by decide) (by decide), Option.bind_some, p38, ← pm, show C + 4275 + 33 + 1 + 1 * 0 = C + 4275 + 34 + 0 by omega, q1, Option.bind_some]
    · rw [e30, e30', if_pos k43, if_pos pK, eu_X37_relocate_76]; unfold du_X37_relocate_76
      rw [show O x 5 j 4 = m by omega, q2, Option.bind_some, Wz_1]
  obtain ⟨r, q, q1, q2, q3⟩ := x_relK rm o3 rg fl3 hb3 x0 x1 hS j0 j1 h51 k43 (by omega) mz (by omega) (by omega) (by
    by_cases c : z 2 k = 300 * x + j
    · obtain ⟨w1, w2, w3, w4, w5⟩ := own c
      rw [if_pos c] at hK hm
      refine .inr (by
        rw [hK]
        refine ⟨⟨k0, k1⟩, c, w5, w2, w3, w4, hm, by rw [hP]; exact plo c, w1, fun hmv hz i i0 i1 => ?_⟩
        rw [by3, hA, plo c, own0 c, w2]
        have := ho.2.2 k k0 k1 hmv (by omega) (by omega) i i0 (by omega)
        rw [w5] at this; exact this)
    · exact .inl (pl c))
  refine ⟨r, q, by rw [f3]; exact q1, ?_, q3.pre R3 T1⟩
  rw [e30, e30', if_neg k43]; exact q2
end jLrl
