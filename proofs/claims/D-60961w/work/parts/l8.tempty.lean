/-! the linker: the twin's layout is emptied *-/
set_option maxRecDepth 100000
section jLte
variable {s t u w : jS} {a b k m n p v l x c f i H B C S K : Int} {d e : Int → Int → Int} {g : Int → Int}
/-- rows are written with one value -/
theorem t_empty : ∃ u, m_X37_emptyLayout t H = some (u, 0) ∧ tLs u (H + 93) (dEm 65536 (gAl 4)) ∧ ((∀ k, 0 ≤ k → k < 1200 → jf u 1000 (H + 204) k = -1) ∧ ∀ k, 0 ≤ k → k < 1800 → jf u 1000 (H + 203) k = -1) ∧ tBW H t u := by
  rw [em_X37_emptyLayout]; unfold dm_X37_emptyLayout
  obtain ⟨y1, E_y1⟩ : ∃ y1, y1 = jp t 45 (H + 93) 4 0 := ⟨_, rfl⟩
  obtain ⟨f_y1, p_y1, -⟩ := jpF E_y1
  rw [jls_e, ← E_y1]
  obtain ⟨y2, E_y2⟩ : ∃ y2, y2 = jp y1 45 (H + 93) 12 0 := ⟨_, rfl⟩
  obtain ⟨f_y2, p_y2, -⟩ := jpF E_y2
  rw [jls_e, ← E_y2]
  obtain ⟨y3, E_y3⟩ : ∃ y3, y3 = jp y2 45 (H + 93) 25 0 := ⟨_, rfl⟩
  obtain ⟨f_y3, p_y3, -⟩ := jpF E_y3
  rw [jls_e, ← E_y3]
  have b3 : tBW H t y3 := ⟨((jSm.rfl.wr E_y1).wr E_y2).wr E_y3, fun c a k q1 q2 => by rw [f_y3 _ _ _ (by omega), f_y2 _ _ _ (by omega), f_y1 _ _ _ (by omega)]⟩
  have z4 : jf y3 45 (H + 93) 4 = 0 := by rw [f_y3 _ _ _ (by omega), f_y2 _ _ _ (by omega)]; exact p_y1
  have z12 : jf y3 45 (H + 93) 12 = 0 := by rw [f_y3 _ _ _ (by omega)]; exact p_y2
  rw [eu_X37_emptyLayout_26]; unfold du_X37_emptyLayout_26
  obtain ⟨w1, e1, j1, k1, l1⟩ := loopTo (C := jc2 b_X37_emptyLayout_26) (fun n w => tBW H t w ∧ (∀ k, 0 ≤ k → k < n → jf w 1002 (H + 93 + 7) k = 0) ∧ ∀ k, jf w 45 (H + 93) k = jf y3 45 (H + 93) k) (fun n => [H, n]) 0 32 (by decide) (s := y3) (F := fun w => u_X37_emptyLayout_58 w H) ⟨b3, fun k k0 k1 => by omega, fun _ => rfl⟩ (fun n w n0 n1 ⟨j1, j2, j3⟩ => by
    show ∃ w', b_X37_emptyLayout_26 w H n = some (.inl (w', [H, n + 1])) ∧ _
    unfold b_X37_emptyLayout_26
    rw [if_pos n1, Wz_0, jst_in n0 n1, Option.bind_some]
    obtain ⟨x1, X1⟩ : ∃ x1, x1 = jp w 1002 (H + 93 + 7) n 0 := ⟨_, rfl⟩
    obtain ⟨f1, p1, -⟩ := jpF X1
    rw [← X1, jst_in n0 n1, Option.bind_some, W32_in (by omega) (by omega)]
    obtain ⟨x2, X2⟩ : ∃ x2, x2 = jp x1 1002 (H + 93 + 6) n 0 := ⟨_, rfl⟩
    obtain ⟨f2, p2, -⟩ := jpF X2
    rw [← X2]
    refine ⟨x2, rfl, ⟨(j1.1.wr X1).wr X2, fun c a k q1 q2 => by rw [f2 _ _ _ (by omega), f1 _ _ _ (by omega)]; exact j1.2 c a k q1 q2⟩, fun k k0 k1 => ?_, fun k => by rw [f2 _ _ _ (by omega), f1 _ _ _ (by omega)]; exact j3 k⟩
    rw [f2 _ _ _ (by omega)]
    by_cases c : k = n
    · rw [c]; exact p1
    · rw [f1 _ _ _ (by omega)]; exact j2 k k0 (by omega)) (fun w _ => by
    show b_X37_emptyLayout_26 w H 32 = _
    unfold b_X37_emptyLayout_26; rw [if_neg (by decide)])
  rw [e1, eu_X37_emptyLayout_58]; unfold du_X37_emptyLayout_58
  rw [eu_X37_emptyLayout_60]; unfold du_X37_emptyLayout_60
  obtain ⟨w2, e2, j2, k2, l2, m2⟩ := loopTo (C := jc2 b_X37_emptyLayout_60) (fun n w => tBW H t w ∧ (∀ k, 0 ≤ k → k < n → jf w 1002 (H + 93 + 19) k = 0) ∧ (∀ k, jf w 45 (H + 93) k = jf y3 45 (H + 93) k) ∧ ∀ k, jf w 1002 (H + 93 + 7) k = jf w1 1002 (H + 93 + 7) k) (fun n => [H, n]) 0 256 (by decide) (s := w1) (F := fun w => u_X37_emptyLayout_83 w H) ⟨j1, fun k k0 k1 => by omega, l1, fun _ => rfl⟩ (fun n w n0 n1 ⟨j1, j2, j3, j4⟩ => by
    show ∃ w', b_X37_emptyLayout_60 w H n = some (.inl (w', [H, n + 1])) ∧ _
    unfold b_X37_emptyLayout_60
    rw [if_pos n1, Wz_0, jst_in n0 n1, Option.bind_some, W32_in (by omega) (by omega)]
    obtain ⟨x1, X1⟩ : ∃ x1, x1 = jp w 1002 (H + 93 + 19) n 0 := ⟨_, rfl⟩
    obtain ⟨f1, p1, -⟩ := jpF X1
    rw [← X1]
    refine ⟨x1, rfl, ⟨j1.1.wr X1, fun c a k q1 q2 => by rw [f1 _ _ _ (by omega)]; exact j1.2 c a k q1 q2⟩, fun k k0 k1 => ?_, fun k => by rw [f1 _ _ _ (by omega)]; exact j3 k, fun k => by rw [f1 _ _ _ (by omega)]; exact j4 k⟩
    by_cases c : k = n
    · rw [c]; exact p1
    · rw [f1 _ _ _ (by omega)]; exact j2 k k0 (by omega)) (fun w _ => by
    show b_X37_emptyLayout_60 w H 256 = _
    unfold b_X37_emptyLayout_60; rw [if_neg (by decide)])
  rw [e2, eu_X37_emptyLayout_83]; unfold du_X37_emptyLayout_83
  rw [em_X41_base]; unfold dm_X41_base
  rw [e_X41_within, if_pos (by decide), Option.bind_some, if_neg n10]
  obtain ⟨y4, E_y4⟩ : ∃ y4, y4 = jp w2 45 (H + 93) 0 65536 := ⟨_, rfl⟩
  obtain ⟨f_y4, p_y4, -⟩ := jpF E_y4
  rw [jls_e, ← E_y4]
  rw [Option.bind_some, eu_X37_emptyLayout_96]; unfold du_X37_emptyLayout_96
  obtain ⟨w3, e3, j3, k3, l3⟩ := loopTo (C := jc2 b_X37_emptyLayout_96) (fun n w => tBW H t w ∧ (∀ k, 0 ≤ k → k < n → jf w 1000 (H + 93 + 1) k = 2 ^ (gAl 4 k).toNat) ∧ ∀ c a k, ¬ c = 1000 → jf w c a k = jf y4 c a k) (fun n => [H, n]) 0 4 (by decide) (s := y4) (F := fun w => u_X37_emptyLayout_126 w H) ⟨⟨j2.1.wr E_y4, fun c a k q1 q2 => by rw [f_y4 _ _ _ (by omega)]; exact j2.2 c a k q1 q2⟩, fun k k0 k1 => by omega, fun _ _ _ _ => rfl⟩ (fun n w n0 n1 ⟨j1, j2, j3⟩ => by
    show ∃ w', b_X37_emptyLayout_96 w H n = some (.inl (w', [H, n + 1])) ∧ _
    unfold b_X37_emptyLayout_96
    have go : ∀ y, (0 ≤ y ∧ y ≤ 12) → y = gAl 4 n → ∃ w', u_X37_emptyLayout_116 w H n y n (H + 93) = some (.inl (w', [H, n + 1])) ∧ tBW H t w' ∧ (∀ k, 0 ≤ k → k < n + 1 → jf w' 1000 (H + 93 + 1) k = 2 ^ (gAl 4 k).toNat) ∧ ∀ c a k, ¬ c = 1000 → jf w' c a k = jf y4 c a k := fun y hy he => by
      rw [eu_X37_emptyLayout_116]; unfold du_X37_emptyLayout_116
      rw [em_X41_align]; unfold dm_X41_align
      rw [e_X41_within, if_pos (by omega), Option.bind_some, if_neg n10, e_X41_within, if_pos (by omega), Option.bind_some, if_neg n10, jst_in n0 n1, Option.bind_some, Option.bind_some, W32_in (by omega) (by omega), one_shl hy.1 hy.2]
      obtain ⟨x1, X1⟩ : ∃ x1, x1 = jp w 1000 (H + 93 + 1) n (2 ^ y.toNat) := ⟨_, rfl⟩
      obtain ⟨f1, p1, -⟩ := jpF X1
      rw [← X1]
      refine ⟨x1, rfl, ⟨j1.1.wr X1, fun c a k q1 q2 => by rw [f1 _ _ _ (by omega)]; exact j1.2 c a k q1 q2⟩, fun k k0 k1 => ?_, fun c a k hc => by rw [f1 _ _ _ (by omega)]; exact j3 c a k hc⟩
      by_cases c : k = n
      · rw [c, p1, he]
      · rw [f1 _ _ _ (by omega)]; exact j2 k k0 (by omega)
    rw [if_pos n1]
    by_cases c3 : n = 3
    · rw [if_pos c3]; exact go 0 (by decide) (by unfold gAl; rw [if_neg (by omega)])
    · rw [if_neg c3]; exact go 4 (by decide) (by unfold gAl; rw [if_pos (by omega)])) (fun w _ => by
    show b_X37_emptyLayout_96 w H 4 = _
    unfold b_X37_emptyLayout_96; rw [if_neg (by decide)])
  rw [e3, eu_X37_emptyLayout_126]; unfold du_X37_emptyLayout_126
  rw [eu_X37_emptyLayout_128]; unfold du_X37_emptyLayout_128
  obtain ⟨w4, e4, j4, k4, l4⟩ := loopTo (C := jc2 b_X37_emptyLayout_128) (fun n w => tBW H t w ∧ (∀ k, 0 ≤ k → k < n → jf w 1000 (H + 204) k = -1) ∧ ∀ c a k, ¬ a = H + 204 → jf w c a k = jf w3 c a k) (fun n => [H, n]) 0 1200 (by decide) (s := w3) (F := fun w => u_X37_emptyLayout_148 w H) ⟨j3, fun k k0 k1 => by omega, fun _ _ _ _ => rfl⟩ (fun n w n0 n1 ⟨j1, j2, j3⟩ => by
    show ∃ w', b_X37_emptyLayout_128 w H n = some (.inl (w', [H, n + 1])) ∧ _
    unfold b_X37_emptyLayout_128
    rw [if_pos n1, jst_in n0 n1, Option.bind_some, W32_in (by omega) (by omega)]
    obtain ⟨x1, X1⟩ : ∃ x1, x1 = jp w 1000 (H + 204) n (-1) := ⟨_, rfl⟩
    obtain ⟨f1, p1, -⟩ := jpF X1
    rw [← X1]
    refine ⟨x1, rfl, j1.wr X1 (by omega), fun k k0 k1 => ?_, fun c a k q => by rw [f1 _ _ _ (by omega)]; exact j3 c a k q⟩
    by_cases c : k = n
    · rw [c]; exact p1
    · rw [f1 _ _ _ (by omega)]; exact j2 k k0 (by omega)) (fun w _ => by
    show b_X37_emptyLayout_128 w H 1200 = _
    unfold b_X37_emptyLayout_128; rw [if_neg (by decide)])
  rw [e4, eu_X37_emptyLayout_148]; unfold du_X37_emptyLayout_148
  rw [eu_X37_emptyLayout_150]; unfold du_X37_emptyLayout_150
  obtain ⟨w5, e5, j5, k5, l5⟩ := loopTo (C := jc2 b_X37_emptyLayout_150) (fun n w => tBW H t w ∧ (∀ k, 0 ≤ k → k < n → jf w 1000 (H + 203) k = -1) ∧ ∀ c a k, ¬ a = H + 203 → jf w c a k = jf w4 c a k) (fun n => [H, n]) 0 1800 (by decide) (s := w4) (F := fun w => some (w, 0)) ⟨j4, fun k k0 k1 => by omega, fun _ _ _ _ => rfl⟩ (fun n w n0 n1 ⟨j1, j2, j3⟩ => by
    show ∃ w', b_X37_emptyLayout_150 w H n = some (.inl (w', [H, n + 1])) ∧ _
    unfold b_X37_emptyLayout_150
    rw [if_pos n1, jst_in n0 n1, Option.bind_some, W32_in (by omega) (by omega)]
    obtain ⟨x1, X1⟩ : ∃ x1, x1 = jp w 1000 (H + 203) n (-1) := ⟨_, rfl⟩
    obtain ⟨f1, p1, -⟩ := jpF X1
    rw [← X1]
    refine ⟨x1, rfl, j1.wr X1 (by omega), fun k k0 k1 => ?_, fun c a k q => by rw [f1 _ _ _ (by omega)]; exact j3 c a k q⟩
    by_cases c : k = n
    · rw [c]; exact p1
    · rw [f1 _ _ _ (by omega)]; exact j2 k k0 (by omega)) (fun w _ => by
    show b_X37_emptyLayout_150 w H 1800 = _
    unfold b_X37_emptyLayout_150; rw [if_neg (by decide)])
  have R : ∀ c a k, ¬ a = H + 203 → ¬ a = H + 204 → jf w5 c a k = jf w3 c a k := fun c a k q1 q2 => by rw [l5 _ _ _ q1, l4 _ _ _ q2]
  have R45 : ∀ k, ¬ k = 0 → jf w5 45 (H + 93) k = jf y3 45 (H + 93) k := fun k hk => by
    rw [R _ _ _ (by omega) (by omega), l3 _ _ _ (by decide), f_y4 _ _ _ (by omega)]; exact l2 k
  refine ⟨w5, e5, ⟨⟨?_, ?_, ?_, ?_⟩, fun o o0 o1 => ?_, fun p p0 p1 => ?_, fun p p0 p1 => ?_, fun k k0 k1 => ?_, fun k k0 k1 _ => ?_, fun l l0 l1 => ?_⟩, ⟨fun k k0 k1 => by rw [l5 _ _ _ (by omega)]; exact k4 k k0 k1, k5⟩, j5⟩
  · rw [R _ _ _ (by omega) (by omega), l3 _ _ _ (by decide), p_y4, dEm_b]
  · rw [R45 _ (by decide), z4, dEm_0 (by omega) (by decide)]
  · rw [R45 _ (by decide), z12, dEm_0 (by omega) (by decide)]
  · rw [R45 _ (by decide), p_y3, dEm_0 (by omega) (by decide)]
  · rw [R _ _ _ (by omega) (by omega), k3 o o0 o1, dEm_g]
  · rw [dEm_0 (by omega) (by decide)] at p1; omega
  · rw [R _ _ _ (by omega) (by omega), l3 _ _ _ (by decide), f_y4 _ _ _ (by omega), m2]; exact k1 p p0 p1
  · rw [dEm_0 (by omega) (by decide)] at k1; omega
  · rw [R _ _ _ (by omega) (by omega), l3 _ _ _ (by decide), f_y4 _ _ _ (by omega)]; exact k2 k k0 k1
  · rw [dEm_0 (by omega) (by decide)] at l1; omega
end jLte
