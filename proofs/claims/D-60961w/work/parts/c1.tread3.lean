/-! the twin reads a file: rules, sizes -/
section jTread3
variable {s t u : jS} {X n p f a b x y e k : Int} {g g' : Int → Int} {o : Int → Int → Int → Int} {L : List (Prop × Int × Int)} {c : Prop}
theorem tN.ep (h : tN u X g) {k : Int} (k0 : 0 ≤ k) (k1 : k < 11) : jlt u 1000 (X + 32) 11 k = some (ep g k.toNat) := by
  rw [jlt_in k0 k1, ← h.1 k.toNat (by omega), nt k0]
theorem tN.pt (h : tN u X g) (hd : Hd g n) (e0 : 1 ≤ e) (e1 : e < RE g) : jlt u 1000 (X + 33) 16 e = some ((pt g e : Nat) : Int) := by
  have := hd.2.2.2.2.1
  rw [jlt_in (by omega) (by omega), h.2 e e0 e1]
theorem sr_t {k : Nat} (hk : k < 11) : m_X40_sortOf u (k : Int) = some (srO k) := by rw [e_X40_sortOf, sr_eq k hk]
theorem fl_t {k : Nat} (hk : k < 11) : m_X40_flagsOf u (k : Int) = some (flO k) := by rw [e_X40_flagsOf, fl_eq k hk]
theorem ea_t {k : Nat} (hk : k < 11) : m_X40_eachOf u (k : Int) = some (eaO k) := by rw [e_X40_eachOf, ea_eq k hk]
theorem t_rule1 (C : tCf s X g n) (h : tH s u X g) (hd : Hd g n) (hN : Nm g) (hr : tN u X g) (e0 : 1 ≤ e) (e1 : e < RE g) : jE (m_X40_ruleFault u X e) (ckR (tOK fun t => t = u) (tBD s X) (Lrule g e)) := by
  have hn := C.n8
  have h16 := hd.2.2.2.2.1
  have F : ∀ k, 0 ≤ k → k < 10 → m_X40_spotOf u X e k = some (rf g e k) := fun k k0 k1 => h.sp C hd (by omega) e1 k0 k1
  have T : ∀ k, 0 ≤ k → k < 10 → m_X40_told u X e k = some (rt g e k) := fun k k0 k1 => h.to C hd (by omega) e1 k0 k1
  have hk := (hN e e0 e1).2.1.1
  have B : ∀ {f k}, 0 ≤ k → k < 10 → ¬ f = 0 → jE ((m_X40_spotOf u X e k).bind fun v => (m_X40_fault u X f v).bind fun q => some (q.1, q.2)) (tBD s X f (rf g e k)) := fun k0 k1 hf => by
    rw [F _ k0 k1, Option.bind_some]
    exact t_fault h.1 hf
  unfold Lrule
  rw [em_X40_ruleFault]; unfold dm_X40_ruleFault
  rw [hr.pt hd e0 e1, Option.bind_some]
  generalize hkk : pt g e = k at *
  have go : ∀ y0 : Int, (y0 = if isM k = true then 1 else 0) → jE (u_X40_ruleFault_23 u X e k y0) (ckR (tOK fun t => t = u) (tBD s X) [(rt g e 1 = srO k, 17, rf g e 1), (rt g e 2 = flO k, 17, rf g e 2), (rt g e 3 = 0, 17, rf g e 3),
      (if isM k = true then 0 < ep g 8 ∧ rt g e 6 = ep g 8 else if k = 8 then 0 < ep g 9 ∧ rt g e 6 = ep g 9 else rt g e 6 = 0, 17, rf g e 6),
      (k = 8 ∨ if isM k = true then 0 < ep g (k - 5) ∧ rt g e 7 = ep g (k - 5) else rt g e 7 = 0, 17, rf g e 7), (rt g e 9 = eaO k, 17, rf g e 9)]) := by
    intro y0 hy
    rw [eu_X40_ruleFault_23]; unfold du_X40_ruleFault_23
    rw [T 1 (by omega) (by omega), Option.bind_some, sr_t hk, Option.bind_some]
    refine tk_if (L_cmp_0 _ _) (B (by omega) (by omega) (by omega)) fun _ => ?_
    rw [T 2 (by omega) (by omega), Option.bind_some, fl_t hk, Option.bind_some]
    refine tk_if (L_cmp_0 _ _) (B (by omega) (by omega) (by omega)) fun _ => ?_
    rw [T 3 (by omega) (by omega), Option.bind_some]
    refine tk_if (L_cmp_0 _ _) (B (by omega) (by omega) (by omega)) fun _ => ?_
    -- the last ones
    have e241 : jE (u_X40_ruleFault_241 u X e k) (ckR (tOK fun t => t = u) (tBD s X) [(rt g e 9 = eaO k, 17, rf g e 9)]) := by
      rw [eu_X40_ruleFault_241]; unfold du_X40_ruleFault_241
      rw [T 9 (by omega) (by omega), Option.bind_some, ea_t hk, Option.bind_some]
      exact tk_if (L_cmp_0 _ _) (B (by omega) (by omega) (by omega)) fun _ => jk_end (jS_end ⟨rfl, rfl⟩)
    have e227 : ∀ (q : Prop) M, ¬ q → jE (u_X40_ruleFault_227 u X e) (ckR (tOK fun t => t = u) (tBD s X) ((q, 17, rf g e 7) :: M)) := fun q M hq => jk_no hq (by
      rw [eu_X40_ruleFault_227]; unfold du_X40_ruleFault_227
      exact B (by omega) (by omega) (by omega))
    have e166 : ∀ (q : Prop) M, ¬ q → jE (u_X40_ruleFault_166 u X e) (ckR (tOK fun t => t = u) (tBD s X) ((q, 17, rf g e 6) :: M)) := fun q M hq => jk_no hq (by
      rw [eu_X40_ruleFault_166]; unfold du_X40_ruleFault_166
      exact B (by omega) (by omega) (by omega))
    have e180 : jE (u_X40_ruleFault_180 u X e k y0) (ckR (tOK fun t => t = u) (tBD s X) [(k = 8 ∨ if isM k = true then 0 < ep g (k - 5) ∧ rt g e 7 = ep g (k - 5) else rt g e 7 = 0, 17, rf g e 7), (rt g e 9 = eaO k, 17, rf g e 9)]) := by
      rw [eu_X40_ruleFault_180]; unfold du_X40_ruleFault_180
      by_cases cM : isM k = true
      · have hm := isM_i.mp cM
        have hl := ep_lo hd hN (k - 5)
        rw [if_pos cM] at hy
        rw [if_neg (by omega), W32_in (by omega) (by omega), hr.ep (by omega) (by omega), Option.bind_some, show ((k : Int) - 5).toNat = k - 5 by omega, eu_X40_ruleFault_196]; unfold du_X40_ruleFault_196
        rw [if_neg (by omega), T 7 (by omega) (by omega), Option.bind_some, if_pos cM]
        simp only [L_cmp_0]
        by_cases c1 : rt g e 7 = ep g (k - 5)
        · rw [if_pos c1, if_neg (by omega)]
          by_cases c2 : ep g (k - 5) = 0
          · rw [if_pos c2]
            exact e227 _ _ fun z => by rcases z with z | z <;> omega
          · rw [if_neg c2]
            exact jk_ok (.inr ⟨by omega, c1⟩) e241
        · rw [if_neg c1]
          exact e227 _ _ fun z => by rcases z with z | z <;> omega
      · rw [if_neg cM] at hy
        rw [if_pos hy, eu_X40_ruleFault_196]; unfold du_X40_ruleFault_196
        by_cases c8 : k = 8
        · rw [if_pos (by omega)]
          exact jk_ok (.inl c8) e241
        · rw [if_neg (by omega), T 7 (by omega) (by omega), Option.bind_some, if_neg cM]
          simp only [L_cmp_0]
          by_cases c1 : rt g e 7 = 0
          · rw [if_pos c1, if_pos hy]
            exact jk_ok (.inr c1) e241
          · rw [if_neg c1]
            exact e227 _ _ fun z => by rcases z with z | z <;> omega
    by_cases cM : isM k = true
    · have hm := isM_i.mp cM
      have hl := ep_lo hd hN 8
      rw [if_pos cM] at hy
      rw [if_neg (by omega), hr.ep (by omega) (by omega), Option.bind_some, show (8 : Int).toNat = 8 from rfl, eu_X40_ruleFault_135]; unfold du_X40_ruleFault_135
      rw [T 6 (by omega) (by omega), Option.bind_some, if_pos cM]
      simp only [L_cmp_0]
      by_cases c1 : rt g e 6 = ep g 8
      · rw [if_pos c1, if_neg (by omega), eu_X40_ruleFault_161]; unfold du_X40_ruleFault_161
        by_cases c2 : ep g 8 = 0
        · rw [if_pos c2]; exact e166 _ _ fun z => by omega
        · rw [if_neg c2]; exact jk_ok ⟨by omega, c1⟩ e180
      · rw [if_neg c1]; exact e166 _ _ fun z => c1 z.2
    · rw [if_neg cM] at hy
      rw [if_pos hy]
      by_cases c8 : k = 8
      · have hl := ep_lo hd hN 9
        rw [if_pos (by omega), hr.ep (by omega) (by omega), Option.bind_some, show (9 : Int).toNat = 9 from rfl, eu_X40_ruleFault_135]; unfold du_X40_ruleFault_135
        rw [T 6 (by omega) (by omega), Option.bind_some, if_neg cM, if_pos c8]
        simp only [L_cmp_0]
        by_cases c1 : rt g e 6 = ep g 9
        · rw [if_pos c1, if_pos hy, if_pos (by omega), eu_X40_ruleFault_161]; unfold du_X40_ruleFault_161
          by_cases c2 : ep g 9 = 0
          · rw [if_pos c2]; exact e166 _ _ fun z => by omega
          · rw [if_neg c2]; exact jk_ok ⟨by omega, c1⟩ e180
        · rw [if_neg c1]; exact e166 _ _ fun z => c1 z.2
      · rw [if_neg (by omega), eu_X40_ruleFault_135]; unfold du_X40_ruleFault_135
        rw [T 6 (by omega) (by omega), Option.bind_some, if_neg cM, if_neg c8]
        simp only [L_cmp_0]
        by_cases c1 : rt g e 6 = 0
        · rw [if_pos c1, if_pos hy, if_neg (by omega)]
          exact jk_ok c1 e180
        · rw [if_neg c1]; exact e166 _ _ c1
  have hm := @isM_i k
  have e22 : u_X40_ruleFault_22 u X e k = u_X40_ruleFault_23 u X e k 0 := by rw [eu_X40_ruleFault_22]; rfl
  rw [e22]
  by_cases c5 : (k : Int) < 5
  · rw [if_pos c5]; exact go 0 (by rw [if_neg (fun z => by have := hm.mp z; omega)])
  · rw [if_neg c5]
    by_cases c8 : (k : Int) < 8
    · rw [if_pos c8]; exact go 1 (by rw [if_pos (hm.mpr (by omega))])
    · rw [if_neg c8]; exact go 0 (by rw [if_neg (fun z => by have := hm.mp z; omega)])
/-- parts -/
theorem t_bytes (C : tCf s X g n) (h : tH s u X g) (hd : Hd g n) (hN : Nm g) (hr : tN u X g) (k0 : 0 ≤ k) (k1 : k < 11) : m_X40_bytesOf u X k = some (sR g k.toNat) := by
  have hl := ep_lo hd hN k.toNat
  rw [em_X40_bytesOf]; unfold dm_X40_bytesOf sR
  rw [hr.ep k0 k1, Option.bind_some]
  by_cases c : ep g k.toNat = 0
  · rw [if_pos c, if_pos c]
  · rw [if_neg c, if_neg c, Option.bind_some, h.to C hd (by omega) (by omega) (by omega) (by omega)]; rfl
theorem t_from (C : tCf s X g n) (h : tH s u X g) (hd : Hd g n) (hN : Nm g) (hr : tN u X g) (k0 : 0 ≤ k) (k1 : k < 11) (hf : fR g k.toNat ≤ 8192) : m_X40_from u X k = some (fR g k.toNat) := by
  have hl := ep_lo hd hN k.toNat
  rw [em_X40_from]; unfold dm_X40_from
  rw [hr.ep k0 k1, Option.bind_some]
  unfold fR at hf ⊢
  by_cases c : ep g k.toNat = 0
  · rw [if_pos c, if_pos c]
  · rw [if_neg c] at hf
    have := C.lo hd (e := ep g k.toNat) (k := 4) (by omega) (by omega) (by omega) (by omega)
    rw [if_neg c, if_neg c, Option.bind_some, h.to C hd (by omega) (by omega) (by omega) (by omega), Option.bind_some, l2i_p, W32_in (by omega) (by omega)]
theorem t_sizes (C : tCf s X g n) (h : tH s u X g) (hd : Hd g n) (hN : Nm g) (hE : En g n) (hR : ∀ e, 1 ≤ e → e < RE g → rt g e 1 = srO (pt g e)) (hr : tN u X g) : jE (m_X40_sizeFaults u X) (ckR (tOK fun t => t = u) (tBD s X) ((0 < ep g 8 ∧ 0 < ep g 9 ∧ ep g 10 = RN g, 18, 50) :: Lsizes g)) := by
  have hn := C.n8
  have h16 := hd.2.2.2.2.1
  have h52 := hd.1
  have l8 := ep_lo hd hN 8
  have l9 := ep_lo hd hN 9
  have l10 := ep_lo hd hN 10
  have hRN := hd.2.2.2.2.2.1
  rw [em_X40_sizeFaults]; unfold dm_X40_sizeFaults
  rw [hr.ep (k := 8) (by omega) (by omega), Option.bind_some, hr.ep (k := 9) (by omega) (by omega), Option.bind_some, hr.ep (k := 10) (by omega) (by omega), Option.bind_some, Option.bind_some, t_r2 (C.rd h.1) (by omega) (by omega), Option.bind_some]
  show jE (if ep g 8 = 0 then u_X40_sizeFaults_46 u X else if ep g 9 = 0 then u_X40_sizeFaults_46 u X else if ep g 10 = 0 then u_X40_sizeFaults_46 u X else if ep g 10 = RN g then u_X40_sizeFaults_59 u X 0 1 else u_X40_sizeFaults_46 u X) _
  have e1 : (if ep g 8 = 0 then u_X40_sizeFaults_46 u X else if ep g 9 = 0 then u_X40_sizeFaults_46 u X else if ep g 10 = 0 then u_X40_sizeFaults_46 u X else if ep g 10 = RN g then u_X40_sizeFaults_59 u X 0 1 else u_X40_sizeFaults_46 u X) = if 0 < ep g 8 ∧ 0 < ep g 9 ∧ ep g 10 = RN g then u_X40_sizeFaults_59 u X 0 1 else u_X40_sizeFaults_46 u X := by
    by_cases c1 : ep g 8 = 0
    · rw [if_pos c1, if_neg (by omega)]
    · rw [if_neg c1]
      by_cases c2 : ep g 9 = 0
      · rw [if_pos c2, if_neg (by omega)]
      · rw [if_neg c2]
        by_cases c3 : ep g 10 = 0
        · rw [if_pos c3, if_neg (by omega)]
        · rw [if_neg c3]
          by_cases c4 : ep g 10 = RN g
          · rw [if_pos c4, if_pos (by omega)]
          · rw [if_neg c4, if_neg (by omega)]
  rw [e1]
  refine tk_if Iff.rfl (by rw [eu_X40_sizeFaults_46]; unfold du_X40_sizeFaults_46; exact t_fault h.1 (by omega)) fun ⟨q8, q9, q10⟩ => ?_
  have hRu : Ru g := ⟨hR, q8, q9, q10⟩
  unfold Lsizes
  rw [eu_X40_sizeFaults_59]; unfold du_X40_sizeFaults_59
  refine jk_for1 (Lsize g) (fun e z w => 12 * z = mvN g e.toNat ∧ 0 ≤ z ∧ z ≤ 300 ∧ w = u) (fun e z => [X, z, e]) 1 (RE g) hd.2.2.2.1 ⟨rfl, by omega, by omega, rfl⟩ (fun e z w k0 k1 _ ⟨ez, z0, z1, ew⟩ => ?_) fun z w ⟨ez, z0, z1, ew⟩ _ => ?_
  · subst ew
    show jE (b_X40_sizeFaults_59 w X z e) _
    unfold b_X40_sizeFaults_59 Lsize
    have hk := (hN e k0 k1).2.1.1
    have v5 := C.lo hd (e := e) (k := 5) (by omega) k1 (by omega) (by omega)
    have hF := h.sp C hd (e := e) (k := 5) (by omega) k1 (by omega) (by omega)
    have hs : mvN g (e + 1).toNat = 12 * z + if isM (pt g e) = true then rt g e 5 else 0 := by
      rw [show (e + 1).toNat = e.toNat + 1 by omega, ez]
      show mvN g e.toNat + (if 1 ≤ e.toNat ∧ isM (pt g e.toNat) = true then rt g e.toNat 5 else 0) = _
      rw [show ((e.toNat : Nat) : Int) = e by omega]
      by_cases c : isM (pt g e) = true
      · rw [if_pos c, if_pos ⟨by omega, c⟩]
      · rw [if_neg c, if_neg (fun q => c q.2)]
    rw [h.2.2, if_pos k1, hr.pt hd k0 k1, Option.bind_some, h.to C hd (by omega) k1 (by omega) (by omega), Option.bind_some]
    have yes : ∀ (c : Prop) z', c → 12 * z' = mvN g (e + 1).toNat ∧ 0 ≤ z' ∧ z' ≤ 300 → jE (u_X40_sizeFaults_274 w X z' e 1) (ckR (fun x => ∃ t z', x = .inl (t, [X, z', e + 1]) ∧ 12 * z' = mvN g (e + 1).toNat ∧ 0 ≤ z' ∧ z' ≤ 300 ∧ t = w) (fun f p x => ∃ r, x = .inr r ∧ tBD s X f p r) [(c, 19, rf g e 5)]) := fun c z' hc hz => by
      rw [eu_X40_sizeFaults_274]; unfold du_X40_sizeFaults_274
      rw [if_neg (by decide), W32_in (by omega) (by omega)]
      exact jk_ok hc (jk_end (jS_end ⟨w, z', rfl, hz.1, hz.2.1, hz.2.2, rfl⟩))
    have no : ∀ (c : Prop) z', ¬ c → jE (u_X40_sizeFaults_274 w X z' e 0) (ckR (fun x => ∃ t z', x = .inl (t, [X, z', e + 1]) ∧ 12 * z' = mvN g (e + 1).toNat ∧ 0 ≤ z' ∧ z' ≤ 300 ∧ t = w) (fun f p x => ∃ r, x = .inr r ∧ tBD s X f p r) [(c, 19, rf g e 5)]) := fun c z' hc => by
      rw [eu_X40_sizeFaults_274]; unfold du_X40_sizeFaults_274
      rw [if_pos rfl, eu_X40_sizeFaults_281]; unfold du_X40_sizeFaults_281
      rw [hF, Option.bind_some]
      exact jk_no hc (t_faultR h.1 (by omega))
    have r2' : L_rem (rt g e 5) 2 = rt g e 5 % 2 := L_rem_n (by omega) (by omega) (by omega) (by omega)
    have r12 : L_rem (rt g e 5) 12 = rt g e 5 % 12 := L_rem_n (by omega) (by omega) (by omega) (by omega)
    have d12 : L_div (rt g e 5) 12 = rt g e 5 / 12 := L_div_n (by omega) (by omega) (by omega) (by omega)
    have r16 : L_rem (rt g e 5) 16 = rt g e 5 % 16 := L_rem_n (by omega) (by omega) (by omega) (by omega)
    simp only [eu_X40_sizeFaults_100, du_X40_sizeFaults_100, eu_X40_sizeFaults_101, du_X40_sizeFaults_101, eu_X40_sizeFaults_119, du_X40_sizeFaults_119, eu_X40_sizeFaults_197, du_X40_sizeFaults_197, eu_X40_sizeFaults_229, du_X40_sizeFaults_229, eu_X40_sizeFaults_269, du_X40_sizeFaults_269, eu_X40_sizeFaults_273, du_X40_sizeFaults_273, L_cmp_gt, L_cmp_lt, L_cmp_0, jlet]
    rw [r2', r12, r16, d12]
    generalize hkk : pt g e = k at *
    have s0 : ∀ v, W64 (z + 0) = v → v = z := fun v q => by rw [← q, W64_in (by omega) (by omega)]; omega
    by_cases c3 : k < 3
    · have cM : ¬ isM k = true := fun q => by have := isM_i.mp q; omega
      rw [if_neg cM] at hs
      rw [if_pos (by omega), if_pos trivial, if_pos (by omega), if_pos c3, W64_in (by omega) (by omega)]
      by_cases c : 2048 < rt g e 5
      · rw [if_pos c]; exact no _ _ (by omega)
      · rw [if_neg c]; exact yes _ _ (by omega) (by omega)
    rw [if_neg c3]
    by_cases c3' : k = 3
    · have cM : ¬ isM k = true := fun q => by have := isM_i.mp q; omega
      rw [if_neg cM] at hs
      rw [if_pos (by omega), if_pos trivial, if_neg (by omega), if_pos (by omega), if_pos c3', W64_in (by omega) (by omega)]
      by_cases c : 4096 < rt g e 5
      · rw [if_pos c]; exact no _ _ (by omega)
      · rw [if_neg c]; exact yes _ _ (by omega) (by omega)
    rw [if_neg c3']
    by_cases c4 : k = 4
    · have cM : ¬ isM k = true := fun q => by have := isM_i.mp q; omega
      rw [if_neg cM] at hs
      rw [if_pos (by omega), if_pos trivial, if_neg (by omega), if_neg (by omega), if_pos (by omega), if_pos c4, W64_in (by omega) (by omega)]
      by_cases c' : 2048 < rt g e 5
      · rw [if_pos c']; exact no _ _ (by omega)
      · rw [if_neg c', jdv_in (by decide), Option.bind_some]
        by_cases c : rt g e 5 % 2 = 0
        · rw [if_pos c]; exact yes _ _ (by omega) (by omega)
        · rw [if_neg c]; exact no _ _ (by omega)
    rw [if_neg (show ¬ (k : Int) < 5 by omega), if_neg c4]
    by_cases cM : isM k = true
    · have hm2 := isM_i.mp cM
      have hi := In_of hE hRu (e := e) k0 k1 (by omega)
      have w4 := C.lo hd (e := e) (k := 4) (by omega) k1 (by omega) (by omega)
      rw [if_pos cM] at hs
      rw [if_pos (by omega), if_neg (by decide), jdv_in (by decide), Option.bind_some, if_neg (by omega), if_neg (by omega), if_neg (by omega), if_neg (by decide), jdv_in (by decide), Option.bind_some, if_pos cM, W64_in (by omega) (by omega)]
      by_cases c : rt g e 5 % 12 = 0
      · rw [if_pos c]
        by_cases c' : 300 < z + rt g e 5 / 12
        · rw [if_pos c']; exact no _ _ (by omega)
        · rw [if_neg c']; exact yes _ _ (by omega) (by omega)
      · rw [if_neg c]; exact no _ _ (by omega)
    have hm2 : ¬ (5 ≤ k ∧ k < 8) := fun q => cM (isM_i.mpr q)
    rw [if_neg cM] at hs
    rw [if_neg (by omega), if_pos trivial, if_neg (by omega), if_neg (by omega), if_neg (by omega), if_pos trivial, if_neg cM, W64_in (by omega) (by omega)]
    by_cases c8 : k = 8
    · rw [if_pos (by omega), if_pos c8, jdv_in (by decide), Option.bind_some]
      by_cases c : rt g e 5 % 16 = 0
      · rw [if_pos c]
        by_cases c' : rt g e 5 < 16
        · rw [if_pos c']; exact no _ _ (by omega)
        · rw [if_neg c']
          by_cases c'' : 1616 < rt g e 5
          · rw [if_pos c'']; exact no _ _ (by omega)
          · rw [if_neg c'']; exact yes _ _ (by omega) (by omega)
      · rw [if_neg c]; exact no _ _ (by omega)
    · rw [if_neg (by omega), if_neg c8]
      exact yes _ _ trivial (by omega)
  · subst ew
    show jE (b_X40_sizeFaults_59 w X z (RE g)) _
    unfold b_X40_sizeFaults_59
    rw [h.2.2, if_neg (by omega), eu_X40_sizeFaults_300]; unfold du_X40_sizeFaults_300
    refine jS_inr (jE_mono (?_ : jE _ (ckR (tOK fun t => t = w) (tBD s X) _)) fun r hr => ⟨r, rfl, hr⟩)
    have p9 : pt g (ep g 9) = 9 := by rcases ep_cases hN 9 with z | z <;> omega
    have hi := In_of hE hRu (e := ep g 9) (by omega) l9.2 (by omega)
    have v4 := C.lo hd (e := ep g 9) (k := 4) (by omega) l9.2 (by omega) (by omega)
    have v5 := C.lo hd (e := ep g 9) (k := 5) (by omega) l9.2 (by omega) (by omega)
    have s9 : sR g 9 = rt g (ep g 9) 5 := by unfold sR; rw [if_neg (by omega)]
    have f9 : fR g 9 = rt g (ep g 9) 4 := by unfold fR; rw [if_neg (by omega)]
    rw [t_bytes C h hd hN hr (by omega) (by omega), Option.bind_some]
    simp only [jlet]
    rw [show (9 : Int).toNat = 9 from rfl, s9, l2i_p, W32_in (by omega) (by omega)]
    unfold Lstr
    refine tk_no (by omega) (by rw [hr.ep (by omega) (by omega), Option.bind_some, h.sp C hd (by exact l9.1) (by exact l9.2) (by omega) (by omega), Option.bind_some]; exact t_fault h.1 (by omega)) fun c5 => ?_
    rw [t_from C h hd hN hr (k := 9) (by omega) (by omega) (by rw [show (9 : Int).toNat = 9 from rfl, f9]; omega), Option.bind_some, show (9 : Int).toNat = 9 from rfl, f9, t_u1 (C.rd h.1) (by omega) (by omega), Option.bind_some]
    refine tk_if Iff.rfl ?_ fun c4 => ?_
    · rw [Option.bind_some]
      exact t_fault h.1 (by omega)
    rw [Option.bind_some, W32_in (z := rt g (ep g 9) 4 + rt g (ep g 9) 5) (by omega) (by omega), W32_in (z := rt g (ep g 9) 4 + rt g (ep g 9) 5 - 1) (by omega) (by omega), t_u1 (C.rd h.1) (by omega) (by omega), Option.bind_some]
    refine tk_if Iff.rfl ?_ fun _ => jk_end (jS_end ⟨rfl, rfl⟩)
    rw [Option.bind_some, W32_in (z := rt g (ep g 9) 4 + rt g (ep g 9) 5) (by omega) (by omega), W32_in (z := rt g (ep g 9) 4 + rt g (ep g 9) 5 - 1) (by omega) (by omega)]
    exact t_fault h.1 (by omega)
end jTread3
