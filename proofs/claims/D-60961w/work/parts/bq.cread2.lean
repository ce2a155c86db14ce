/-! the component reads a file: entries, names -/
section jCread2
variable {s t u : jS} {B N R n p f a b x y e k : Int} {g g' : Int → Int} {o : Int → Int → Int → Int} {L : List (Prop × Int × Int)} {c : Prop}
/-- numbers of an entry -/
theorem rf_in (hd : Hd g n) (hn : n ≤ 8192) (e0 : 0 ≤ e) (e1 : e < RE g) (k0 : 0 ≤ k) (k1 : k < 10) : 52 ≤ rf g e k ∧ rf g e k + 3 < n := by
  obtain ⟨h1, h2, h3, h4, h5, h6, h7, h8, -⟩ := hd
  unfold rf; omega
theorem g_field (h : rH s u R B g n) (hd : Hd g n) (hn : n ≤ 8192) (e0 : 0 ≤ e) (e1 : e < RE g) (k0 : 0 ≤ k) (k1 : k < 10) : m_X21_field u R e k = some (rf g e k) := by
  have hr := rf_in hd hn e0 e1 k0 k1
  obtain ⟨h1, h2, h3, h4, h5, h6, h7, h8, -⟩ := hd
  rw [e_X21_field, h.2.1, W32_in (z := 40 * e) (by omega) (by omega), W32_in (z := RT g + 40 * e) (by omega) (by omega), W32_in (z := 4 * k) (by omega) (by omega), W32_in (by unfold rf at hr; omega) (by unfold rf at hr; omega)]; rfl
theorem g_told (C : rC s R B g n) (h : rH s u R B g n) (hd : Hd g n) (e0 : 0 ≤ e) (e1 : e < RE g) (k0 : 0 ≤ k) (k1 : k < 10) : m_X21_told u R e k = some (rt g e k) := by
  have hr := rf_in hd C.1.2.1 e0 e1 k0 k1
  rw [em_X21_told]; unfold dm_X21_told
  rw [g_field h hd C.1.2.1 e0 e1 k0 k1, Option.bind_some, g_u4 C h.1 (by omega) hr.2]; rfl
theorem g_from (C : rC s R B g n) (h : rH s u R B g n) (hd : Hd g n) (e0 : 0 ≤ e) (e1 : e < RE g) : m_X21_from u R e = some (W32 (rt g e 4)) := by
  have hr := rf_in (k := 4) hd C.1.2.1 e0 e1 (by omega) (by omega)
  rw [em_X21_from]; unfold dm_X21_from
  rw [g_field h hd C.1.2.1 e0 e1 (by omega) (by omega), Option.bind_some, g_s4 C h.1 (by omega) hr.2]; rfl
theorem g_size (C : rC s R B g n) (h : rH s u R B g n) (hd : Hd g n) (e0 : 0 ≤ e) (e1 : e < RE g) : m_X21_sizeOf u R e = some (W32 (rt g e 5)) := by
  have hr := rf_in (k := 5) hd C.1.2.1 e0 e1 (by omega) (by omega)
  rw [em_X21_sizeOf]; unfold dm_X21_sizeOf
  rw [g_field h hd C.1.2.1 e0 e1 (by omega) (by omega), Option.bind_some, g_s4 C h.1 (by omega) hr.2]; rfl
theorem g_isS (C : rC s R B g n) (h : rH s u R B g n) (hd : Hd g n) (e0 : 0 ≤ e) (e1 : e < RE g) : m_X21_isStored u R e = some (if rt g e 1 = 8 then 0 else 1) := by
  rw [em_X21_isStored]; unfold dm_X21_isStored
  rw [g_told C h hd e0 e1 (by omega) (by omega), Option.bind_some, Wz_0, Wz_1]
  simp only [L_cmp_0]
  split <;> rfl
theorem rt_lo (C : rC s R B g n) (hd : Hd g n) (e0 : 0 ≤ e) (e1 : e < RE g) (k0 : 0 ≤ k) (k1 : k < 10) : 0 ≤ rt g e k ∧ rt g e k < 4294967296 := by
  have hr := rf_in hd C.1.2.1 e0 e1 k0 k1
  exact r4_lo C.1.by (by omega) hr.2
theorem c_ent1 (C : rC s R B g n) (h : rH s u R B g n) (hd : Hd g n) (e0 : 1 ≤ e) (e1 : e < RE g) (hE : ∀ i, 1 ≤ i → i < e → Gd (Lent g n i)) : jE (b_X21_entries_44 u R e) (ckR (fun x => ∃ t, x = .inl (t, [R, e + 1]) ∧ t = u) (fun f p x => ∃ r, x = .inr r ∧ cBD s R f p r) (Lent g n e)) := by
  have hn := C.1.2.1
  have v1 := rt_lo C hd (e := e) (k := 1) (by omega) e1 (by omega) (by omega)
  have v4 := rt_lo C hd (e := e) (k := 4) (by omega) e1 (by omega) (by omega)
  have v5 := rt_lo C hd (e := e) (k := 5) (by omega) e1 (by omega) (by omega)
  have v8 := rt_lo C hd (e := e) (k := 8) (by omega) e1 (by omega) (by omega)
  unfold Lent
  unfold b_X21_entries_44
  have F : ∀ k, 0 ≤ k → k < 10 → m_X21_field u R e k = some (rf g e k) := fun k k0 k1 => g_field h hd hn (by omega) e1 k0 k1
  have T : ∀ k, 0 ≤ k → k < 10 → m_X21_told u R e k = some (rt g e k) := fun k k0 k1 => g_told C h hd (by omega) e1 k0 k1
  rw [h.2.2.1, if_pos e1, T 1 (by omega) (by omega), Option.bind_some]
  have e82 : u_X21_entries_82 u R e R = u_X21_entries_87 u R e 1 R := by rw [eu_X21_entries_82]; rfl
  have ea : (if L_cmp (rt g e 1) 1 < 0 then u_X21_entries_74 u R e (rt g e 1) R else if 0 < L_cmp (rt g e 1) 4 then u_X21_entries_74 u R e (rt g e 1) R else u_X21_entries_82 u R e R) = if 1 ≤ rt g e 1 ∧ rt g e 1 ≤ 4 ∨ rt g e 1 = 8 then u_X21_entries_87 u R e 1 R else u_X21_entries_87 u R e 0 R := by
    rw [eu_X21_entries_74]; unfold du_X21_entries_74
    simp only [L_cmp_0, L_cmp_lt, L_cmp_gt, e82]
    by_cases c8 : rt g e 1 = 8
    · rw [if_pos c8, if_neg (by omega), if_pos (by omega), if_pos (.inr c8)]
    · rw [if_neg c8]
      by_cases c1 : rt g e 1 < 1
      · rw [if_pos c1, if_neg (by omega)]
      · rw [if_neg c1]
        by_cases c2 : 4 < rt g e 1
        · rw [if_pos c2, if_neg (by omega)]
        · rw [if_neg c2, if_pos (by omega)]
  rw [ea]
  refine nd_if C h.1.1 (by rw [eu_X21_entries_87]; unfold du_X21_entries_87; rw [F 1 (by omega) (by omega), Option.bind_some]) (by rw [eu_X21_entries_87]; unfold du_X21_entries_87; rw [F 1 (by omega) (by omega), Option.bind_some]) Iff.rfl (fun q hq => hq.inr) fun hc1 => ?_
  dsimp only
  rw [g_isS C h hd (by omega) e1, Option.bind_some]
  have e157 : ∀ z, u_X21_entries_157 u R e z R = u_X21_entries_162 u R e z 1 R := fun z => by rw [eu_X21_entries_157]; rfl
  have e161 : ∀ z, u_X21_entries_161 u R e z R = u_X21_entries_162 u R e z 0 R := fun z => by rw [eu_X21_entries_161]; rfl
  have e211 : ∀ z, u_X21_entries_211 u R e z R = u_X21_entries_216 u R e z 1 R := fun z => by rw [eu_X21_entries_211]; rfl
  have e215 : ∀ z, u_X21_entries_215 u R e z R = u_X21_entries_216 u R e z 0 R := fun z => by rw [eu_X21_entries_215]; rfl
  have fin : jE (u_X21_entries_367 u R e) fun x => ∃ t, x = .inl (t, [R, e + 1]) ∧ t = u := by
    rw [eu_X21_entries_367]; unfold du_X21_entries_367
    have := hd.2.2.2.2.1
    rw [W32_in (by omega) (by omega)]
    exact jS_end ⟨u, rfl, rfl⟩
  -- the alignment
  have A : m_X13_isAlignment u (rt g e 8) = some (if pwB (rt g e 8) = true then 1 else 0) := by
    rw [e_X13_isAlignment]
    congr 1
    by_cases c : pPw (rt g e 8)
    · rw [if_pos (pw_al.mpr c), if_pos (pwB_i.mpr c)]
    · rw [if_neg (fun z => c (pw_al.mp z)), if_neg (fun z => c (pwB_i.mp z))]
  by_cases st : rt g e 1 = 8
  · have ns : ¬ isS g e := fun z => z st
    rw [if_pos st, if_pos rfl, e157, eu_X21_entries_162]; unfold du_X21_entries_162
    rw [F 4 (by omega) (by omega), Option.bind_some]
    refine nd_x C h.1.1 (.inr rfl) ⟨fun _ z => absurd z ns, fun _ => rfl⟩ (fun q hq => hq.inr) fun hc2 => ?_
    dsimp only
    rw [T 8 (by omega) (by omega), Option.bind_some, A, Option.bind_some, e215, e211]
    have eb : (if (if pwB (rt g e 8) = true then (1 : Int) else 0) = 0 then u_X21_entries_216 u R e 0 0 R else if (0 : Int) = 0 then u_X21_entries_216 u R e 0 1 R else (m_X21_told u R e 4).bind fun v5 => (some (rt g e 8)).bind fun v6 => (jdv v6 (L_rem v5 v6)).bind fun v7 => if L_cmp v7 0 = 0 then u_X21_entries_216 u R e 0 1 R else u_X21_entries_216 u R e 0 0 R) = if pwB (rt g e 8) = true then u_X21_entries_216 u R e 0 1 R else u_X21_entries_216 u R e 0 0 R := by
      by_cases c : pwB (rt g e 8) = true
      · rw [if_pos c, if_neg (by decide), if_pos rfl, if_pos c]
      · rw [if_neg c, if_pos rfl, if_neg c]
    rw [eb]
    refine nd_if C h.1.1 (by rw [eu_X21_entries_216]; unfold du_X21_entries_216; rw [F 8 (by omega) (by omega), Option.bind_some]) (by rw [eu_X21_entries_216]; unfold du_X21_entries_216; rw [F 8 (by omega) (by omega), Option.bind_some]) ⟨fun c => ⟨pwB_i.mp c, fun z => absurd z ns⟩, fun c => pwB_i.mpr c.1⟩ (fun q hq => hq.inr) fun hc3 => jk_ok (fun z => absurd z ns) (jk_end ?_)
    dsimp only
    rw [if_pos rfl]
    exact fin
  · have ys : isS g e := st
    rw [if_neg st, if_neg (by decide)]
    simp only [T 4 (by omega) (by omega), T 5 (by omega) (by omega), Option.bind_some, L_cmp_0, L_cmp_lt, L_cmp_gt]
    rw [W64_in (by omega) (by omega), h.1.2.2, e157, e161]
    have eb : (if n < rt g e 4 + rt g e 5 then u_X21_entries_162 u R e 1 0 R else if rt g e 5 = 0 then u_X21_entries_162 u R e 1 1 R else if rt g e 4 < 52 then u_X21_entries_162 u R e 1 0 R else u_X21_entries_162 u R e 1 1 R) = if rt g e 4 + rt g e 5 ≤ n ∧ (rt g e 5 = 0 ∨ 52 ≤ rt g e 4) then u_X21_entries_162 u R e 1 1 R else u_X21_entries_162 u R e 1 0 R := by
      by_cases c1 : n < rt g e 4 + rt g e 5
      · rw [if_pos c1, if_neg (by omega)]
      · rw [if_neg c1]
        by_cases c2 : rt g e 5 = 0
        · rw [if_pos c2, if_pos (by omega)]
        · rw [if_neg c2]
          by_cases c3 : rt g e 4 < 52
          · rw [if_pos c3, if_neg (by omega)]
          · rw [if_neg c3, if_pos (by omega)]
    rw [eb]
    refine nd_if C h.1.1 (by rw [eu_X21_entries_162]; unfold du_X21_entries_162; rw [F 4 (by omega) (by omega), Option.bind_some]) (by rw [eu_X21_entries_162]; unfold du_X21_entries_162; rw [F 4 (by omega) (by omega), Option.bind_some]) ⟨fun c _ => c, fun c => c ys⟩ (fun q hq => hq.inr) fun hc2 => ?_
    dsimp only
    have hc2 := hc2 ys
    rw [T 8 (by omega) (by omega), Option.bind_some, A, Option.bind_some, e215, e211]
    have ec : (if (if pwB (rt g e 8) = true then (1 : Int) else 0) = 0 then u_X21_entries_216 u R e 1 0 R else if (1 : Int) = 0 then u_X21_entries_216 u R e 1 1 R else (m_X21_told u R e 4).bind fun v5 => (some (rt g e 8)).bind fun v6 => (jdv v6 (L_rem v5 v6)).bind fun v7 => if L_cmp v7 0 = 0 then u_X21_entries_216 u R e 1 1 R else u_X21_entries_216 u R e 1 0 R) = if pwB (rt g e 8) = true ∧ rt g e 4 % rt g e 8 = 0 then u_X21_entries_216 u R e 1 1 R else u_X21_entries_216 u R e 1 0 R := by
      by_cases c : pwB (rt g e 8) = true
      · have hp := (pwB_i.mp c).lo
        rw [if_pos c, if_neg (by decide), if_neg (by decide), T 4 (by omega) (by omega), Option.bind_some, Option.bind_some, jdv_in (by omega), Option.bind_some, L_rem_n (by omega) (by omega) (by omega) (by omega)]
        simp only [L_cmp_0]
        by_cases c1 : rt g e 4 % rt g e 8 = 0
        · rw [if_pos c1, if_pos ⟨c, c1⟩]
        · rw [if_neg c1, if_neg (fun z => c1 z.2)]
      · rw [if_neg c, if_pos rfl, if_neg (fun z => c z.1)]
    rw [ec]
    refine nd_if C h.1.1 (by rw [eu_X21_entries_216]; unfold du_X21_entries_216; rw [F 8 (by omega) (by omega), Option.bind_some]) (by rw [eu_X21_entries_216]; unfold du_X21_entries_216; rw [F 8 (by omega) (by omega), Option.bind_some]) ⟨fun c => ⟨pwB_i.mp c.1, fun _ => c.2⟩, fun c => ⟨pwB_i.mpr c.1, c.2 ys⟩⟩ (fun q hq => hq.inr) fun hc3 => ?_
    dsimp only
    rw [if_neg (by decide), g_size C h hd (by omega) e1, Option.bind_some, W32_in (by omega) (by omega)]
    by_cases c5 : rt g e 5 = 0
    · rw [if_pos c5]
      exact jk_ok (fun _ z => absurd c5 z) (jk_end fin)
    rw [if_neg c5, g_from C h hd (by omega) e1, Option.bind_some, Option.bind_some, W32_in (z := rt g e 4) (by omega) (by omega), h.2.1, h.2.2.1]
    have hE' := hd
    obtain ⟨d1, d2, d3, d4, d5, d6, d7, d8, d9⟩ := hd
    have hd := hE'
    rw [W32_in (z := 40 * RE g) (by omega) (by omega), e_X21_meets, Option.bind_some, W32_in (z := RT g + 40 * RE g) (by omega) (by omega), W32_in (z := rt g e 4 + rt g e 5) (by omega) (by omega)]
    have loop : ∀ z, (z = 0 ∨ z = 1) → (z = 1 ↔ ¬ mt (rt g e 4) (rt g e 5) (RT g) (40 * RE g)) → jE (u_X21_entries_277 u R e z) (ckR (fun x => ∃ t, x = .inl (t, [R, e + 1]) ∧ t = u) (fun f p x => ∃ r, x = .inr r ∧ cBD s R f p r) [(isS g e → ¬ rt g e 5 = 0 → ¬ mt (rt g e 4) (rt g e 5) (RT g) (40 * RE g) ∧ ∀ k, 1 ≤ k → k < e → isS g k → ¬ rt g k 5 = 0 → ¬ mt (rt g e 4) (rt g e 5) (rt g k 4) (rt g k 5), 14, rf g e 4)]) := by
      intro z z01 hz
      rw [eu_X21_entries_277]; unfold du_X21_entries_277
      rw [eu_X21_entries_282]; unfold du_X21_entries_282
      refine jS_for1 (fun k z w => w = u ∧ (z = 0 ∨ z = 1) ∧ (z = 1 ↔ ¬ mt (rt g e 4) (rt g e 5) (RT g) (40 * RE g) ∧ ∀ j, 1 ≤ j → j < k → isS g j → ¬ rt g j 5 = 0 → ¬ mt (rt g e 4) (rt g e 5) (rt g j 4) (rt g j 5))) (fun k z => [R, e, z, k]) 1 e e0 ⟨rfl, z01, hz.trans ⟨fun q => ⟨q, fun j j0 j1 => by omega⟩, fun q => q.1⟩⟩ (fun k z w k0 k1 ⟨ew, w01, hw⟩ => ?_) (fun z w ⟨ew, w01, hw⟩ => ?_)
      · subst ew
        show jE (b_X21_entries_282 w R e z k) _
        have key : ∃ z', b_X21_entries_282 w R e z k = some (.inl (w, [R, e, z', k + 1])) ∧ (z' = 0 ∨ z' = 1) ∧ (z' = 1 ↔ ¬ mt (rt g e 4) (rt g e 5) (RT g) (40 * RE g) ∧ ∀ j, 1 ≤ j → j < k + 1 → isS g j → ¬ rt g j 5 = 0 → ¬ mt (rt g e 4) (rt g e 5) (rt g j 4) (rt g j 5)) := by
          unfold b_X21_entries_282
          have e340 : u_X21_entries_340 w R e k = some (.inl (w, [R, e, 1, k + 1])) := by
            rw [eu_X21_entries_340]; unfold du_X21_entries_340
            rw [eu_X21_entries_345]; unfold du_X21_entries_345
            rw [W32_in (by omega) (by omega)]
          have e344 : u_X21_entries_344 w R e k = some (.inl (w, [R, e, 0, k + 1])) := by
            rw [eu_X21_entries_344]; unfold du_X21_entries_344
            rw [eu_X21_entries_345]; unfold du_X21_entries_345
            rw [W32_in (by omega) (by omega)]
          rw [if_pos k1, e340, e344]
          by_cases z0 : z = 0
          · rw [if_pos z0]
            refine ⟨0, rfl, .inl rfl, fun q => absurd q (by decide), fun q => ?_⟩
            have := hw.mpr ⟨q.1, fun j j0 j1 => q.2 j j0 (by omega)⟩
            omega
          have hz1 := hw.mp (by omega)
          have one : (isS g k → ¬ rt g k 5 = 0 → ¬ mt (rt g e 4) (rt g e 5) (rt g k 4) (rt g k 5)) → ∃ z', (some (.inl (w, [R, e, 1, k + 1])) : Option ((jS × List Int) ⊕ ((jS × List Int) ⊕ (jS × Bool × Int)))) = some (.inl (w, [R, e, z', k + 1])) ∧ (z' = 0 ∨ z' = 1) ∧ (z' = 1 ↔ ¬ mt (rt g e 4) (rt g e 5) (RT g) (40 * RE g) ∧ ∀ j, 1 ≤ j → j < k + 1 → isS g j → ¬ rt g j 5 = 0 → ¬ mt (rt g e 4) (rt g e 5) (rt g j 4) (rt g j 5)) := fun q => ⟨1, rfl, .inr rfl, fun _ => ⟨hz1.1, fun j j0 j1 => by
            by_cases ej : j = k
            · subst ej; exact q
            · exact hz1.2 j j0 (by omega)⟩, fun _ => rfl⟩
          rw [if_neg z0, g_isS C h hd (by omega) (by omega), Option.bind_some]
          by_cases sk : rt g k 1 = 8
          · rw [if_pos sk, if_pos rfl]
            exact one fun z => absurd sk z
          · rw [if_neg sk, if_neg (by decide)]
            have hk2 : rt g k 4 + rt g k 5 ≤ n := by
              have := hE k k0 k1
              unfold Lent at this
              rw [Gd_cons, Gd_cons] at this
              exact (this.2.1 sk).1
            have w4 := rt_lo C hd (e := k) (k := 4) (by omega) (by omega) (by omega) (by omega)
            have w5 := rt_lo C hd (e := k) (k := 5) (by omega) (by omega) (by omega) (by omega)
            rw [g_size C h hd (by omega) (by omega), Option.bind_some, W32_in (z := rt g k 5) (by omega) (by omega)]
            by_cases c5k : 0 < rt g k 5
            · rw [if_pos c5k, g_from C h hd (by omega) e1, Option.bind_some, g_size C h hd (by omega) e1, Option.bind_some, g_from C h hd (by omega) (by omega), Option.bind_some, Option.bind_some, W32_in (z := rt g e 4) (by omega) (by omega), W32_in (z := rt g e 5) (by omega) (by omega), W32_in (z := rt g k 4) (by omega) (by omega), e_X21_meets, Option.bind_some, W32_in (z := rt g k 4 + rt g k 5) (by omega) (by omega), W32_in (z := rt g e 4 + rt g e 5) (by omega) (by omega)]
              by_cases cm : rt g e 4 < rt g k 4 + rt g k 5 ∧ rt g k 4 < rt g e 4 + rt g e 5
              · rw [if_pos cm, if_neg (by decide)]
                exact ⟨0, rfl, .inl rfl, fun q => absurd q (by decide), fun q' => absurd cm (q'.2 k k0 (by omega) sk (by omega))⟩
              · rw [if_neg cm, if_pos rfl]
                exact one fun _ _ q => cm q
            · rw [if_neg c5k]
              exact one fun _ q => absurd (show rt g k 5 = 0 by omega) q
        obtain ⟨z', ez, hz1, hz2⟩ := key
        rw [ez]
        exact jS_end ⟨z', rfl, rfl, hz1, hz2⟩
      · subst ew
        show jE (b_X21_entries_282 w R e z e) _
        unfold b_X21_entries_282
        rw [if_neg (by omega), eu_X21_entries_353]; unfold du_X21_entries_353
        rw [F 4 (by omega) (by omega), Option.bind_some]
        refine jS_inr ?_
        exact nd_x C h.1.1 w01 (hw.trans ⟨fun q _ _ => q, fun q => q ys c5⟩) (fun q hq => hq.inr) fun hc => jk_end fin
    by_cases cm : rt g e 4 < RT g + 40 * RE g ∧ RT g < rt g e 4 + rt g e 5
    · rw [if_pos cm, if_neg (by decide)]
      exact loop 0 (.inl rfl) ⟨fun q => absurd q (by decide), fun q => absurd cm q⟩
    · rw [if_neg cm, if_pos rfl]
      exact loop 1 (.inr rfl) ⟨fun _ => cm, fun _ => rfl⟩
theorem c_entries (C : rC s R B g n) (h : rH s u R B g n) (hd : Hd g n) : jE (m_X21_entries u R) (ckR (cOK fun t => t = u) (cBD s R) (Lents g n)) := by
  have hn := C.1.2.1
  unfold Lents
  rw [em_X21_entries]; unfold dm_X21_entries
  rw [eu_X21_entries_2]; unfold du_X21_entries_2
  have h1 := hd.2.2.2.1
  refine jk_for (fun k => [(rt g 0 k = 0, 11, rf g 0 k)]) (fun _ t => t = u) (fun k => [R, k]) 0 10 (by omega) rfl (fun k t k0 k1 _ e => ?_) fun t e _ => ?_
  · subst e
    show jE (b_X21_entries_2 t R k) _
    unfold b_X21_entries_2
    rw [if_pos k1, g_told C h hd (by omega) (by omega) k0 k1, Option.bind_some]
    refine nd_if C h.1.1 (by rw [eu_X21_entries_25]; unfold du_X21_entries_25; rw [g_field h hd hn (by omega) (by omega) k0 k1, Option.bind_some]) (by rw [eu_X21_entries_25]; unfold du_X21_entries_25; rw [g_field h hd hn (by omega) (by omega) k0 k1, Option.bind_some]) (L_cmp_0 _ _) (fun q hq => hq.inr) fun c1 => jk_end ?_
    dsimp only
    rw [W32_in (by omega) (by omega)]
    exact jS_end ⟨t, rfl, rfl⟩
  subst e
  show jE (b_X21_entries_2 t R 10) _
  unfold b_X21_entries_2
  rw [if_neg (by omega), eu_X21_entries_42]; unfold du_X21_entries_42
  rw [eu_X21_entries_44]; unfold du_X21_entries_44
  refine jS_inr (jE_mono (?_ : jE _ (ckR (cOK fun w => w = t) (cBD s R) _)) fun r hr => ⟨r, rfl, hr⟩)
  refine jk_for (Lent g n) (fun _ w => w = t) (fun k => [R, k]) 1 (RE g) h1 rfl (fun k w k0 k1 hG e => ?_) fun w e _ => ?_
  · subst e
    exact c_ent1 C h hd k0 k1 hG
  · subst e
    show jE (b_X21_entries_44 w R (RE g)) _
    unfold b_X21_entries_44
    rw [h.2.2.1, if_neg (by omega)]
    exact jS_inr (jS_end ⟨_, rfl, ck_end ⟨rfl, rfl⟩⟩)
/-- what good entries tell -/
def En (g : Int → Int) (n : Int) : Prop := ∀ e, 1 ≤ e → e < RE g → (isS g e → rt g e 4 + rt g e 5 ≤ n ∧ (rt g e 5 = 0 ∨ 52 ≤ rt g e 4)) ∧ pPw (rt g e 8)
theorem En_of (h : Gd (Lents g n)) : En g n := by
  unfold Lents at h
  rw [Gd_app, Gd_app, ckF_gd (F := Lent g n)] at h
  intro e e0 e1
  have := h.2.1 e e0 e1
  unfold Lent at this
  simp only [Gd_cons] at this
  exact ⟨this.2.1, this.2.2.1.1⟩
theorem c_strs (C : rC s R B g n) (h : rH s u R B g n) (hd : Hd g n) (e0 : 1 ≤ e) (e1 : e < RE g) (hs : rt g e 4 + rt g e 5 ≤ n ∧ (rt g e 5 = 0 ∨ 52 ≤ rt g e 4)) : jE (m_X21_strings u R e f) (ckR (cOK fun t => t = u) (cBD s R) (Lstr g e f)) := by
  have hn := C.1.2.1
  have v4 := rt_lo C hd (e := e) (k := 4) (by omega) e1 (by omega) (by omega)
  have v5 := rt_lo C hd (e := e) (k := 5) (by omega) e1 (by omega) (by omega)
  have F : ∀ k, 0 ≤ k → k < 10 → m_X21_field u R e k = some (rf g e k) := fun k k0 k1 => g_field h hd hn (by omega) e1 k0 k1
  have hF := g_from C h hd (e := e) (by omega) e1
  have hS := g_size C h hd (e := e) (by omega) e1
  rw [W32_in (by omega) (by omega)] at hF hS
  unfold Lstr
  rw [em_X21_strings]; unfold dm_X21_strings
  rw [hS, Option.bind_some]
  refine nd_if C h.1.1 (by rw [eu_X21_strings_14]; unfold du_X21_strings_14; rw [F 5 (by omega) (by omega), Option.bind_some]) (by rw [eu_X21_strings_14]; unfold du_X21_strings_14; rw [F 5 (by omega) (by omega), Option.bind_some]) Iff.rfl (fun q hq => hq.end) fun c5 => ?_
  dsimp only
  rw [hF, Option.bind_some, g_u1 C h.1 (by omega) (by omega)]
  refine nd_if C h.1.1 (by rw [eu_X21_strings_45]; unfold du_X21_strings_45; rw [hF, Option.bind_some]) (by rw [eu_X21_strings_45]; unfold du_X21_strings_45; rw [hF, Option.bind_some]) Iff.rfl (fun q hq => hq.end) fun c1 => ?_
  dsimp only
  rw [hF, Option.bind_some, hS, Option.bind_some, W32_in (z := rt g e 4 + rt g e 5) (by omega) (by omega), W32_in (by omega) (by omega), g_u1 C h.1 (by omega) (by omega)]
  refine nd_if C h.1.1 (by rw [eu_X21_strings_83]; unfold du_X21_strings_83; rw [hF, Option.bind_some, hS, Option.bind_some, W32_in (z := rt g e 4 + rt g e 5) (by omega) (by omega), W32_in (by omega) (by omega)]) (by rw [eu_X21_strings_83]; unfold du_X21_strings_83; rw [hF, Option.bind_some, hS, Option.bind_some, W32_in (z := rt g e 4 + rt g e 5) (by omega) (by omega), W32_in (by omega) (by omega)]) Iff.rfl (fun q hq => hq.end) fun c2 => jk_end ?_
  dsimp only
  exact jS_end ⟨rfl, rfl⟩
end jCread2
