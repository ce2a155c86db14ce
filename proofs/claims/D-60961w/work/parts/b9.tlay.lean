/-! the twin: turns, tables of strings, what can't be written -/
section jTlay
variable {s t u : jS} {X x y n : Int} {o : Int → Int → Int → Int} {S w : List Int} {T : Nat → Bool}
/-- which symbols a round takes -/
def isRd (o : Int → Int → Int → Int) (p : Int) : Int → Bool := if p = 0 then isLc o else isNl o
theorem isRd_i {p : Int} (hp : p = 0 ∨ p = 1) (x : Int) : isRd o p x = true ↔ (o 4 x 3 = 0 ↔ p = 0) := by
  unfold isRd isLc isNl
  rcases hp with rfl | rfl
  · rw [if_pos rfl]; simp
  · rw [if_neg (by omega)]; simp
theorem t_round (hO : tOb s X 0 o) (v : vOb o) {p n0 l : Int} (hp : p = 0 ∨ p = 1) (h0 : 0 ≤ n0) (h1 : n0 ≤ 100) : jE (u_X40_order_14 s X n0 l p 0) fun r => ∃ s', r = .inl (s', [X, n0 + cn (isRd o p) (o 2 1 0), if p = 0 then n0 + cn (isRd o p) (o 2 1 0) else l, p + 1]) ∧ jSm s s' ∧ (∀ c a k, ¬ (c = 1000 ∧ a = X + 30) → jf s' c a k = jf s c a k) ∧ ∀ x, 0 ≤ x → jf s' 1000 (X + 30) x = if x < o 2 1 0 ∧ isRd o p x = true then n0 + cn (isRd o p) x else jf s 1000 (X + 30) x := by
  obtain ⟨n1, n2, n3, n4, n5, n6⟩ := v.2.2.1
  have hN := hO.2.2.1.2.1
  rw [eu_X40_order_14]; unfold du_X40_order_14
  refine jS_for1 (fun k z u => z = n0 + cn (isRd o p) k ∧ jSm s u ∧ (∀ c a k, ¬ (c = 1000 ∧ a = X + 30) → jf u c a k = jf s c a k) ∧ ∀ x, 0 ≤ x → jf u 1000 (X + 30) x = if x < k ∧ isRd o p x = true then n0 + cn (isRd o p) x else jf s 1000 (X + 30) x) (fun k z => [X, z, l, p, k]) 0 (o 2 1 0) n3 ⟨by rw [cn_0]; omega, jSm.rfl, fun _ _ _ _ => rfl, fun x x0 => by rw [if_neg (by omega)]⟩ (fun k z u k0 k1 ⟨e1, e2, e3, e4⟩ => ?_) (fun z u ⟨e1, e2, e3, e4⟩ => ?_)
  · show jE (b_X40_order_14 u X z l p k) _
    have hb : jf u 1000 (X + 9) k = o 4 k 3 := by
      rw [e3 _ _ _ (by omega)]
      have := (hO.2.2.2.2.1 k k0 k1).2.2.2.1
      rw [show 100 * (0 : Int) + k = k by omega] at this
      exact this
    have hc := cn_lo (P := isRd o p) k0
    have hs := cn_s (P := isRd o p) k0
    have hr := isRd_i (o := o) hp k
    have eq : b_X40_order_14 u X z l p k = if isRd o p k = true then some (.inl (jp u 1000 (X + 30) k z, [X, z + 1, l, p, k + 1])) else some (.inl (u, [X, z, l, p, k + 1])) := by
      unfold b_X40_order_14
      rw [jlt_in (by omega) (by omega), Option.bind_some, e3 _ _ _ (by omega), hN, if_pos k1, jlt_in k0 (by omega), Option.bind_some, hb]
      simp only [em_X40_order, dm_X40_order, eu_X40_order_81, du_X40_order_81, eu_X40_order_72, du_X40_order_72, eu_X40_order_66, du_X40_order_66, eu_X40_order_49, du_X40_order_49, eu_X40_order_40, du_X40_order_40, jst_in k0 (show k < 100 by omega), Option.bind_some, W32_in (show -2147483648 ≤ z + 1 by omega) (show z + 1 ≤ 2147483647 by omega), W32_in (show -2147483648 ≤ k + 1 by omega) (show k + 1 ≤ 2147483647 by omega)]
      rcases hp with rfl | rfl
      · by_cases ho : o 4 k 3 = 0
        · rw [if_pos (hr.mpr ⟨fun _ => rfl, fun _ => ho⟩), if_pos ho]; rfl
        · rw [if_neg (fun q => ho ((hr.mp q).mpr rfl)), if_neg ho]; rfl
      · by_cases ho : o 4 k 3 = 0
        · rw [if_neg (fun q => absurd ((hr.mp q).mp ho) (by decide)), if_pos ho]; rfl
        · rw [if_pos (hr.mpr ⟨fun q => absurd q ho, fun q => absurd q (by decide)⟩), if_neg ho]; rfl
    rw [eq]
    by_cases c : isRd o p k = true
    · rw [if_pos c] at hs ⊢
      refine jS_end ⟨z + 1, rfl, by omega, e2.jp, fun c a k q => by rw [jf_neg (by omega)]; exact e3 c a k q, fun x x0 => ?_⟩
      by_cases ex : x = k
      · subst ex
        rw [jf_pos ⟨rfl, rfl, rfl⟩, if_pos ⟨by omega, c⟩]; exact e1
      · rw [jf_neg (by omega), e4 x x0]
        by_cases cx : isRd o p x = true
        · by_cases cl : x < k
          · rw [if_pos ⟨cl, cx⟩, if_pos ⟨by omega, cx⟩]
          · rw [if_neg (by omega), if_neg (by omega)]
        · rw [if_neg (fun q => cx q.2), if_neg (fun q => cx q.2)]
    · rw [if_neg c] at hs ⊢
      refine jS_end ⟨z, rfl, by omega, e2, e3, fun x x0 => ?_⟩
      rw [e4 x x0]
      by_cases cx : isRd o p x = true
      · have : ¬ x = k := fun e => c (by rw [← e]; exact cx)
        by_cases cl : x < k
        · rw [if_pos ⟨cl, cx⟩, if_pos ⟨by omega, cx⟩]
        · rw [if_neg (by omega), if_neg (by omega)]
      · rw [if_neg (fun q => cx q.2), if_neg (fun q => cx q.2)]
  · show jE (b_X40_order_14 u X z l p (o 2 1 0)) _
    unfold b_X40_order_14
    have hc := cn_lo (P := isRd o p) n3
    rw [jlt_in (by omega) (by omega), Option.bind_some, e3 _ _ _ (by omega), hN, if_neg (by omega)]
    simp only [em_X40_order, dm_X40_order, eu_X40_order_81, du_X40_order_81, eu_X40_order_72, du_X40_order_72, eu_X40_order_66, du_X40_order_66, eu_X40_order_49, du_X40_order_49, eu_X40_order_40, du_X40_order_40]
    rcases hp with rfl | rfl
    · rw [if_pos rfl]
      (repeat (first | with_reducible refine jS_pos (by omega) ?_ | with_reducible refine jS_neg (by omega) ?_ | with_reducible refine jS_posB (by omega) ?_ | with_reducible refine jS_negB (by omega) ?_ | with_reducible refine jS_some ?_ | with_reducible refine jS_ls ?_ | with_reducible refine jS_let ?_ | with_reducible refine jS_lt (by omega) (by omega) ?_ | with_reducible refine jS_st (by omega) (by omega) ?_ | with_reducible refine jS_ix (by omega) (by omega) ?_ | with_reducible refine jS_dv (by omega) ?_ | with_reducible refine jS_zb (by omega) ?_ | with_reducible refine jS_bb ?_ | with_reducible refine jS_inr ?_ | with_reducible refine jS_lsB ?_ | with_reducible refine jS_letB ?_ | with_reducible refine jS_ck0 (by omega) ?_ | with_reducible refine jS_ck0B (by omega) ?_ | rw [W32_in (by omega) (by omega)] | rw [W32_aL] | rw [W32_aR] | rw [W32_sL] | rw [W32_mR] | rw [jf_neg (by omega)] | rw [jf_pos (by omega)] | with_reducible refine jS_bb ?_))
      refine jS_end ⟨u, ?_, e2, e3, e4⟩
      rw [e1, if_pos rfl]
    · rw [if_neg (by omega)]
      (repeat (first | with_reducible refine jS_pos (by omega) ?_ | with_reducible refine jS_neg (by omega) ?_ | with_reducible refine jS_posB (by omega) ?_ | with_reducible refine jS_negB (by omega) ?_ | with_reducible refine jS_some ?_ | with_reducible refine jS_ls ?_ | with_reducible refine jS_let ?_ | with_reducible refine jS_lt (by omega) (by omega) ?_ | with_reducible refine jS_st (by omega) (by omega) ?_ | with_reducible refine jS_ix (by omega) (by omega) ?_ | with_reducible refine jS_dv (by omega) ?_ | with_reducible refine jS_zb (by omega) ?_ | with_reducible refine jS_bb ?_ | with_reducible refine jS_inr ?_ | with_reducible refine jS_lsB ?_ | with_reducible refine jS_letB ?_ | with_reducible refine jS_ck0 (by omega) ?_ | with_reducible refine jS_ck0B (by omega) ?_ | rw [W32_in (by omega) (by omega)] | rw [W32_aL] | rw [W32_aR] | rw [W32_sL] | rw [W32_mR] | rw [jf_neg (by omega)] | rw [jf_pos (by omega)] | with_reducible refine jS_bb ?_))
      refine jS_end ⟨u, ?_, e2, e3, e4⟩
      rw [e1, if_neg (by omega)]
theorem t_order (hO : tOb s X 0 o) (v : vOb o) : jE (m_X40_order s X) fun q => q.2 = nLc o ∧ jSm s q.1 ∧ (∀ c a k, ¬ (c = 1000 ∧ a = X + 30) → jf q.1 c a k = jf s c a k) ∧ ∀ x, 0 ≤ x → x < o 2 1 0 → jf q.1 1000 (X + 30) x = tn o x := by
  obtain ⟨n1, n2, n3, n4, n5, n6⟩ := v.2.2.1
  have hL := cn_lo (P := isLc o) n3
  have hr0 : isRd o 0 = isLc o := by unfold isRd; rw [if_pos rfl]
  have hr1 : isRd o 1 = isNl o := by unfold isRd; rw [if_neg (by omega)]
  rw [em_X40_order]; unfold dm_X40_order
  rw [eu_X40_order_6]; unfold du_X40_order_6
  obtain ⟨r, er, s1, e1, g1, g2, g3⟩ := t_round hO v (p := 0) (n0 := 0) (l := 0) (.inl rfl) (by omega) (by omega)
  subst e1
  rw [hr0, if_pos rfl] at er
  rw [hr0] at g3
  have st0 : jc4 b_X40_order_6 [X, 0, 0, 0] s = some (.inl (s1, [X, 0 + cn (isLc o) (o 2 1 0), 0 + cn (isLc o) (o 2 1 0), 0 + 1])) := by
    show b_X40_order_6 s X 0 0 0 = _
    unfold b_X40_order_6
    rw [if_pos (by omega)]; exact er
  rw [jlpW_l st0]
  have hO1 : tOb s1 X 0 o := hO.keep (fun a k a0 a1 => g2 _ _ _ (by omega)) v
  obtain ⟨r, er, s2, e1, k1, k2, k3⟩ := t_round hO1 v (p := 1) (n0 := 0 + cn (isLc o) (o 2 1 0)) (l := 0 + cn (isLc o) (o 2 1 0)) (.inr rfl) (by omega) (by omega)
  subst e1
  rw [hr1, if_neg (by omega)] at er
  rw [hr1] at k3
  have st1 : jc4 b_X40_order_6 [X, 0 + cn (isLc o) (o 2 1 0), 0 + cn (isLc o) (o 2 1 0), 0 + 1] s1 = some (.inl (s2, [X, 0 + cn (isLc o) (o 2 1 0) + cn (isNl o) (o 2 1 0), 0 + cn (isLc o) (o 2 1 0), 1 + 1])) := by
    show b_X40_order_6 s1 X _ _ (0 + 1) = _
    unfold b_X40_order_6
    rw [if_pos (by omega)]; exact er
  rw [jlpW_l st1, jlpW_r (r := some (s2, nLc o)) (by
    show b_X40_order_6 s2 X _ _ (1 + 1) = _
    unfold b_X40_order_6
    rw [if_neg (by omega)]
    unfold nLc
    rw [show (0 : Int) + cn (isLc o) (o 2 1 0) = cn (isLc o) (o 2 1 0) by omega])]
  refine jS_end ⟨rfl, g1.trans k1, fun c a k q => (k2 c a k q).trans (g2 c a k q), fun x x0 x1 => ?_⟩
  rw [k3 x x0, g3 x x0]
  unfold tn nLc isNl isLc
  by_cases c : o 4 x 3 = 0
  · rw [if_neg (by simp [c]), if_pos ⟨x1, by simp [c]⟩, if_pos c]
    show 0 + _ = _
    rw [Int.zero_add]
  · rw [if_pos ⟨x1, by simp [c]⟩, if_neg c]
    show 0 + _ + _ = _
    rw [Int.zero_add]
/-- what can't be written -/
def bd1 (o : Int → Int → Int → Int) : Prop := ∃ k, 0 ≤ k ∧ k < o 2 0 0 ∧ o 1 0 0 ≤ o 3 k 0
def bd2 (o : Int → Int → Int → Int) : Prop := ∃ x, 0 ≤ x ∧ x < o 2 1 0 ∧ 0 ≤ o 4 x 0 ∧ o 4 x 0 < 4 ∧ o 1 (o 4 x 0) 0 < o 4 x 1 + o 4 x 2
def bd3 (o : Int → Int → Int → Int) : Prop := ∃ x, 0 ≤ x ∧ x < o 2 2 0 ∧ o 1 (o 5 x 0) 0 < o 5 x 1 + kW (o 5 x 2) (o 5 x 4)
def ftO (o : Int → Int → Int → Int) (r : Int) : Prop := bd1 o ∧ r = -1 ∨ ¬ bd1 o ∧ bd2 o ∧ r = -2 ∨ ¬ bd1 o ∧ ¬ bd2 o ∧ bd3 o ∧ r = -3 ∨ ¬ bd1 o ∧ ¬ bd2 o ∧ ¬ bd3 o ∧ r = 0
theorem t_unfit (hO : tOb s X 0 o) (v : vOb o) : ∃ r, m_X40_unfit s X = some r ∧ ftO o r := by
  obtain ⟨n1, n2, n3, n4, n5, n6⟩ := v.2.2.1
  obtain ⟨hA, hB, ⟨hN1, hN2, hN3⟩, hT, hY, hR⟩ := hO
  have z4 : ∀ k : Int, 4 * (0 : Int) + k = k := fun k => by omega
  have z1 : ∀ k : Int, 1024 * (0 : Int) + k = k := fun k => by omega
  have z2 : ∀ k : Int, 100 * (0 : Int) + k = k := fun k => by omega
  have z3 : ∀ k : Int, 300 * (0 : Int) + k = k := fun k => by omega
  rw [em_X40_unfit]; unfold dm_X40_unfit
  rw [eu_X40_unfit_2]; unfold du_X40_unfit_2
  have st : ∀ k, 0 ≤ k → k < o 2 0 0 → b_X40_unfit_2 s X k = if o 1 0 0 ≤ o 3 k 0 then jinr (some (-1)) else some (.inl [X, k + 1]) := fun k k0 k1 => by
    have h1 := hT k k0 k1
    have h2 := (hA 0 (by omega) (by omega)).1
    rw [z1] at h1; rw [z4] at h2
    unfold b_X40_unfit_2
    rw [jlt_in (by omega) (by omega), Option.bind_some, hN1, if_pos k1, jlt_in k0 (by omega), Option.bind_some, jlt_in (by omega) (by omega), Option.bind_some, h1, h2, W32_in (by omega) (by omega)]
    by_cases c : o 1 0 0 ≤ o 3 k 0
    · rw [if_pos c, if_neg (by omega)]
    · rw [if_neg c, if_pos (by omega)]
  rcases jseekR (C := jc2 b_X40_unfit_2) (s := s) (fun k => [X, k]) (fun k => o 1 0 0 ≤ o 3 k 0) (fun _ => some (-1)) (u_X40_unfit_35 s X) 0 (o 2 0 0) n1 (fun k k0 k1 hk => by
      show b_X40_unfit_2 s X k = _
      rw [st k k0 k1, if_neg hk]) (fun k k0 k1 hk => by
      show b_X40_unfit_2 s X k = _
      rw [st k k0 k1, if_pos hk]) (by
      show b_X40_unfit_2 s X (o 2 0 0) = _
      unfold b_X40_unfit_2
      rw [jlt_in (by omega) (by omega), Option.bind_some, hN1, if_neg (by omega)]) with ⟨k, k0, k1, k2, -, e⟩ | ⟨k2, e⟩
  · exact ⟨_, e, .inl ⟨⟨k, k0, k1, k2⟩, rfl⟩⟩
  have nb1 : ¬ bd1 o := fun ⟨k, k0, k1, q⟩ => k2 k k0 k1 q
  rw [e, eu_X40_unfit_35]; unfold du_X40_unfit_35
  rw [eu_X40_unfit_37]; unfold du_X40_unfit_37
  have st : ∀ k, 0 ≤ k → k < o 2 1 0 → ((0 ≤ o 4 k 0 ∧ o 4 k 0 < 4 ∧ o 1 (o 4 k 0) 0 < o 4 k 1 + o 4 k 2) → b_X40_unfit_37 s X k = jinr (some (-2))) ∧ (¬ (0 ≤ o 4 k 0 ∧ o 4 k 0 < 4 ∧ o 1 (o 4 k 0) 0 < o 4 k 1 + o 4 k 2) → b_X40_unfit_37 s X k = some (.inl [X, k + 1])) := fun k k0 k1 => by
    obtain ⟨h1, h2, h3, -⟩ := hY k k0 k1
    have hv := v.2.2.2.2.1 k k0 k1
    obtain ⟨v1, v2, v3, v4, -⟩ := hv
    unfold jin at v3 v4
    rw [z2] at h1 h2 h3
    unfold b_X40_unfit_37
    simp only [em_X40_unfit, dm_X40_unfit, eu_X40_unfit_106, du_X40_unfit_106, eu_X40_unfit_100, du_X40_unfit_100, eu_X40_unfit_35, du_X40_unfit_35]
    rw [jlt_in (by omega) (by omega), Option.bind_some, hN2, if_pos k1, jlt_in k0 (by omega), Option.bind_some, h1, W32_in (z := k + 1) (by omega) (by omega)]
    by_cases c1 : o 4 k 0 < 0
    · rw [if_pos c1]; exact ⟨fun q => by omega, fun _ => rfl⟩
    rw [if_neg c1]
    by_cases c2 : ¬ o 4 k 0 < 4
    · rw [Option.bind_some, if_neg c2]; exact ⟨fun q => by omega, fun _ => rfl⟩
    replace c2 := Decidable.not_not.mp c2
    have h4 := (hA (o 4 k 0) (by omega) c2).1
    rw [z4] at h4
    rw [Option.bind_some, if_pos c2, jlt_in k0 (by omega), Option.bind_some, jlt_in k0 (by omega), Option.bind_some, Option.bind_some, jlt_in (by omega) (by omega), Option.bind_some, h2, h3, h4, W64_in (by omega) (by omega)]
    have hc := L_cmp_gt (o 4 k 1 + o 4 k 2) (o 1 (o 4 k 0) 0)
    by_cases c3 : o 1 (o 4 k 0) 0 < o 4 k 1 + o 4 k 2
    · rw [if_pos (hc.mpr c3)]; exact ⟨fun _ => rfl, fun q => by omega⟩
    · rw [if_neg (fun q => c3 (hc.mp q))]; exact ⟨fun q => by omega, fun _ => rfl⟩
  rcases jseekR (C := jc2 b_X40_unfit_37) (s := s) (fun k => [X, k]) (fun k => 0 ≤ o 4 k 0 ∧ o 4 k 0 < 4 ∧ o 1 (o 4 k 0) 0 < o 4 k 1 + o 4 k 2) (fun _ => some (-2)) (u_X40_unfit_106 s X) 0 (o 2 1 0) n3 (fun k k0 k1 hk => (st k k0 k1).2 hk) (fun k k0 k1 hk => (st k k0 k1).1 hk) (by
      show b_X40_unfit_37 s X (o 2 1 0) = _
      unfold b_X40_unfit_37
      rw [jlt_in (by omega) (by omega), Option.bind_some, hN2, if_neg (by omega)]) with ⟨k, k0, k1, k2, -, e⟩ | ⟨k2, e⟩
  · exact ⟨_, e, .inr (.inl ⟨nb1, ⟨k, k0, k1, k2⟩, rfl⟩)⟩
  have nb2 : ¬ bd2 o := fun ⟨k, k0, k1, q⟩ => k2 k k0 k1 q
  rw [e, eu_X40_unfit_106]; unfold du_X40_unfit_106
  rw [eu_X40_unfit_108]; unfold du_X40_unfit_108
  have st : ∀ k, 0 ≤ k → k < o 2 2 0 → (o 1 (o 5 k 0) 0 < o 5 k 1 + kW (o 5 k 2) (o 5 k 4) → b_X40_unfit_108 s X k = jinr (some (-3))) ∧ (¬ o 1 (o 5 k 0) 0 < o 5 k 1 + kW (o 5 k 2) (o 5 k 4) → b_X40_unfit_108 s X k = some (.inl [X, k + 1])) := fun k k0 k1 => by
    obtain ⟨h1, h2, h3, h4, h5⟩ := hR k k0 k1
    obtain ⟨v1, v2, v3, v4, v5, v6, v7, v8, v9⟩ := v.2.2.2.2.2 k k0 k1
    rw [z3] at h1 h2 h3 h5
    have h6 := (hA (o 5 k 0) (by omega) (by omega)).1
    rw [z4] at h6
    have hw : v_X40_widthOf (o 5 k 2) (o 5 k 4) = kW (o 5 k 2) (o 5 k 4) := by
      unfold v_X40_widthOf kW
      repeat' split
      all_goals first | rfl | (exfalso; omega)
    have hk := kW_hi (k := o 5 k 2) (a := o 5 k 4) (fun e => v9 e)
    unfold b_X40_unfit_108
    rw [jlt_in (by omega) (by omega), Option.bind_some, hN3, if_pos k1, jlt_in k0 (by omega), Option.bind_some, jlt_in k0 (by omega), Option.bind_some, jlt_in k0 (by omega), Option.bind_some, h2, h3, h5, e_X40_widthOf, hw, Option.bind_some, jlt_in k0 (by omega), Option.bind_some, h1, jlt_in (by omega) (by omega), Option.bind_some, h6, W64_in (by omega) (by omega), W32_in (z := k + 1) (by omega) (by omega)]
    have hc := L_cmp_gt (o 5 k 1 + kW (o 5 k 2) (o 5 k 4)) (o 1 (o 5 k 0) 0)
    by_cases c3 : o 1 (o 5 k 0) 0 < o 5 k 1 + kW (o 5 k 2) (o 5 k 4)
    · rw [if_pos (hc.mpr c3)]; exact ⟨fun _ => rfl, fun q => by omega⟩
    · rw [if_neg (fun q => c3 (hc.mp q))]; exact ⟨fun q => by omega, fun _ => rfl⟩
  rcases jseekR (C := jc2 b_X40_unfit_108) (s := s) (fun k => [X, k]) (fun k => o 1 (o 5 k 0) 0 < o 5 k 1 + kW (o 5 k 2) (o 5 k 4)) (fun _ => some (-3)) (some 0) 0 (o 2 2 0) n5 (fun k k0 k1 hk => (st k k0 k1).2 hk) (fun k k0 k1 hk => (st k k0 k1).1 hk) (by
      show b_X40_unfit_108 s X (o 2 2 0) = _
      unfold b_X40_unfit_108
      rw [jlt_in (by omega) (by omega), Option.bind_some, hN3, if_neg (by omega)]) with ⟨k, k0, k1, k2, -, e⟩ | ⟨k2, e⟩
  · exact ⟨_, e, .inr (.inr (.inl ⟨nb1, nb2, ⟨k, k0, k1, k2⟩, rfl⟩))⟩
  · exact ⟨_, e, .inr (.inr (.inr ⟨nb1, nb2, fun ⟨k, k0, k1, q⟩ => k2 k k0 k1 q, rfl⟩))⟩
end jTlay
