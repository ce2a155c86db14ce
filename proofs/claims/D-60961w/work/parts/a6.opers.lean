/-! operands of a word (printed by gen_oper.py) -/
section jOpers
variable {s t u : jS} {W V w r x f : Int} {l m : List Int} {k : Nat}
theorem imm_rng (k v : Int) (h : v_X43_isImmediate k v = 1) : -1048576 ≤ v ∧ v ≤ 1048575 := by
  revert h
  unfold v_X43_isImmediate
  repeat' split
  all_goals (intro h; omega)
theorem part_rng (hk : k < 75) {w : Int} (ht : pTk k w = true) : (0 ≤ (pPt k w).1 ∧ (pPt k w).1 ≤ 31) ∧ (0 ≤ (pPt k w).2.1 ∧ (pPt k w).2.1 ≤ 31) ∧ (0 ≤ (pPt k w).2.2.1 ∧ (pPt k w).2.2.1 ≤ 31) ∧ -1048576 ≤ (pPt k w).2.2.2 ∧ (pPt k w).2.2.2 ≤ 1048575 := by
  have hg := good_of ht
  have hn := nrm_pt hk ht
  unfold pGood at hg
  rw [Bool.and_eq_true, Bool.and_eq_true, Bool.and_eq_true] at hg
  obtain ⟨⟨⟨g0, g1⟩, g2⟩, g3⟩ := hg
  have reg : ∀ e : Nat, (!pHas k e || pReg k e (p4g (pPt k w) e)) = true → (pHas k e = false → p4g (pPt k w) e = 0) → 0 ≤ p4g (pPt k w) e ∧ p4g (pPt k w) e ≤ 31 := by
    intro e h h0
    cases c : pHas k e with
    | false => rw [h0 c]; omega
    | true =>
      rw [c] at h
      have h : pReg k e (p4g (pPt k w) e) = true := h
      unfold pReg at h
      split at h
      · have := of_decide_eq_true h; omega
      · have := of_decide_eq_true h; omega
  have z0 : pHas k 0 = false → p4g (pPt k w) 0 = 0 := fun c => by
    have := congrArg (fun y : jP4 => y.1) hn
    show (pPt k w).1 = 0
    rw [← this]; show (if pHas k 0 = true then _ else (0 : Int)) = 0
    rw [c]; rfl
  have z1 : pHas k 1 = false → p4g (pPt k w) 1 = 0 := fun c => by
    have := congrArg (fun y : jP4 => y.2.1) hn
    show (pPt k w).2.1 = 0
    rw [← this]; show (if pHas k 1 = true then _ else (0 : Int)) = 0
    rw [c]; rfl
  have z2 : pHas k 2 = false → p4g (pPt k w) 2 = 0 := fun c => by
    have := congrArg (fun y : jP4 => y.2.2.1) hn
    show (pPt k w).2.2.1 = 0
    rw [← this]; show (if pHas k 2 = true then _ else (0 : Int)) = 0
    rw [c]; rfl
  refine ⟨reg 0 g0 z0, reg 1 g1 z1, reg 2 g2 z2, ?_⟩
  cases c : pHas k 3 with
  | false =>
    have := congrArg (fun y : jP4 => y.2.2.2) hn
    have z : (pPt k w).2.2.2 = 0 := by
      rw [← this]; show (if pHas k 3 = true then _ else (0 : Int)) = 0
      rw [c]; rfl
    omega
  | true =>
    rw [c] at g3
    have h : pImm k (p4g (pPt k w) 3) = true := g3
    unfold pImm at h
    exact imm_rng _ _ (of_decide_eq_true h)
/-- the text of the operands -/
def opL (pt d a b i p : Int) : List Int := if pt = 1 then rgL d ++ cS 157 ++ rgL a ++ cS 157 ++ rgL b else if pt = 2 then rgL d ++ cS 157 ++ rgL a ++ cS 157 ++ decL i else if pt = 3 then rgL d ++ cS 157 ++ decL i ++ cS 158 ++ rgL a ++ cS 159 else if pt = 4 then rgL b ++ cS 157 ++ decL i ++ cS 158 ++ rgL a ++ cS 159 else if pt = 5 then rgL a ++ cS 157 ++ rgL b ++ cS 157 ++ hxL p else if pt = 6 then rgL d ++ cS 157 ++ hxL i else if pt = 7 then rgL d ++ cS 157 ++ hxL p else if pt = 8 then hxL p else if pt = 9 then rgL a ++ cS 157 ++ hxL p else if pt = 10 then rgL d ++ cS 157 ++ rgL b else if pt = 11 then rgL a else if pt = 12 then rgL d ++ cS 157 ++ decL i else if pt = 13 then rgL d ++ cS 157 ++ decL i ++ cS 160 else if pt = 14 then rgL b ++ cS 157 ++ decL i ++ cS 160 else if pt = 15 then rgL d ++ cS 161 ++ decL i else cS 162 ++ decL i
theorem cS_l : (cS 157).length = 2 ∧ (cS 158).length = 1 ∧ (cS 159).length = 1 ∧ (cS 160).length = 4 ∧ (cS 161).length = 6 ∧ (cS 162).length = 4 := by decide
theorem rgL_le {r : Int} (h0 : 0 ≤ r) (h1 : r ≤ 31) : (rgL r).length ≤ 4 := by
  have := (tab_rg r.toNat (by omega)).2.2.1
  rw [show ((r.toNat : Nat) : Int) = r by omega] at this
  exact this
theorem bc_grow {b M P Q P' Q' : Int} (h : pBc s u b l M P Q) (g : jGw u t P' Q' (fun _ => False)) : pBc s t b l M (P + P') (Q + Q') ∧ jf t 8 b 0 = jf u 8 b 0 := by
  obtain ⟨h1, h2, h3, h4⟩ := h
  obtain ⟨k1, k2⟩ := h1.keep g (fun z => z) (fun z => z)
  exact ⟨⟨k1, h2.trans g (fun a _ z => by rcases z with z | z <;> exact z), h3, by rw [k2]; exact h4⟩, k2⟩
theorem c_opers (hC : pCon s) (h0 : 0 ≤ jn s) (hW : pWd s W) (hN : pWn s W) {w kd : Int} (hw : -2147483648 ≤ w ∧ w ≤ 2147483647) (hd : isKd w kd) (hk : ¬ kd = -1) (hpt : 1 ≤ (cKd kd.toNat).1 ∧ (cKd kd.toNat).1 ≤ 16) {pl : Int} (hB : jBd s 60 3000) :
    jE (m_X2_operands s (jf s 1008 (W + 23) kd) (pWh w) pl) fun q => pRs s q.1 q.2 (opL (cKd kd.toNat).1 (pPt kd.toNat w).1 (pPt kd.toNat w).2.1 (pPt kd.toNat w).2.2.1 (pPt kd.toNat w).2.2.2 (W32 (pl + (pPt kd.toNat w).2.2.2))) 60 3000 := by
  obtain ⟨r0, r1, r2, -, -⟩ := isKd_t hd hk
  have hr := part_rng (k := kd.toNat) (by omega) r2
  have part : ∀ (u : jS) (P Q : Int), jGw s u P Q (fun _ => False) → ∀ e : Nat, e < 4 → jct u 27 (jf s 1008 (W + 23) kd) (m_X7_part u (jf s 1008 (W + 23) kd) (pWh w) e) = some (p4g (pPt kd.toNat w) e) := fun u P Q g e he => by
    obtain ⟨g1, g2⟩ := hW.gw hN g (fun _ z => z.elim)
    have e8 : jf u 1008 (W + 23) kd = jf s 1008 (W + 23) kd := g.2.2 _ _ _ (by have := hN.2.1; omega) (fun z => z)
    rw [← e8, jct_in (g1.1.at r0 r1).2.t]
    exact c_part g1.1 hw hd hk he
  have hpat : ∀ (u : jS) (P Q : Int), jGw s u P Q (fun _ => False) → jrd u 11 (jf s 1008 (W + 23) kd) 1 = some (cKd kd.toNat).1 := fun u P Q g => by
    obtain ⟨g1, g2⟩ := hW.gw hN g (fun _ z => z.elim)
    have e8 : jf u 1008 (W + 23) kd = jf s 1008 (W + 23) kd := g.2.2 _ _ _ (by have := hN.2.1; omega) (fun z => z)
    have ha := (g1.1.at r0 r1).2
    rw [← e8, jrd_in (c := 11) ha.1.1 (show jK u _ = 11 from ha.1.2.2.1), ha.2.1]
  generalize hPP : pPt kd.toNat w = PP at hr part ⊢
  obtain ⟨d, a, b, i⟩ := PP
  dsimp only at hr
  obtain ⟨⟨d0, d1⟩, ⟨a0, a1⟩, ⟨b0, b1⟩, i0, i1⟩ := hr
  show jE _ fun q : jS × Int => pRs s q.1 q.2 (opL (cKd kd.toNat).1 d a b i (W32 (pl + i))) 60 3000
  have lengths := cS_l
  obtain ⟨L7, L8, L9, L10, L11, L12⟩ := lengths
  have ld := rgL_le d0 d1
  have la := rgL_le a0 a1
  have lb := rgL_le b0 b1
  have li := (decL_le i).2
  have lh := (hxL_len i).2
  generalize hp : W32 (pl + i) = p
  have lp := (hxL_len p).2
  rw [em_X2_operands]; unfold dm_X2_operands
  rw [show jct s 27 _ (m_X7_part s _ (pWh w) 0) = some d from part s 0 0 jGw.rfl 0 (by omega), Option.bind_some, jE_bind]
  refine jE_mono (c_reg hC h0 (hB.le (by omega) (by omega)) d0 (by show d < 32; omega)) fun q2 ⟨x1, x2, _⟩ => ?_
  rw [show jct q2.1 27 _ (m_X7_part q2.1 _ (pWh w) 1) = some a from part _ _ _ x2 1 (by omega), Option.bind_some, jE_bind]
  refine jE_mono (c_reg (hC.keep x2 (fun _ z => z.elim)) (by have := x2.n; omega) (jBd.le ((hB.le (p' := 6 + 54) (q' := 150 + 2850) (by omega) (by omega)).gw x2) (by omega) (by omega)) a0 (by show a < 32; omega)) fun q4 ⟨y1, y2, y3⟩ => ?_
  have xy := x2.trans y2 (C := fun _ => False) (fun a _ z => by rcases z with z | z <;> exact z)
  rw [show jct q4.1 27 _ (m_X7_part q4.1 _ (pWh w) 2) = some b from part _ _ _ xy 2 (by omega), Option.bind_some, jE_bind]
  refine jE_mono (c_reg (hC.keep xy (fun _ z => z.elim)) (by have := xy.n; omega) (jBd.le ((hB.le (p' := 12 + 48) (q' := 300 + 2700) (by omega) (by omega)).gw xy) (by omega) (by omega)) b0 (by show b < 32; omega)) fun q6 ⟨z1, z2, _⟩ => ?_
  have xyz := xy.trans z2 (C := fun _ => False) (fun a _ z => by rcases z with z | z <;> exact z)
  rw [show jct q6.1 27 _ (m_X7_part q6.1 _ (pWh w) 3) = some i from part _ _ _ xyz 3 (by omega), Option.bind_some, hp, jE_bind]
  refine jE_mono (c_hex (hC.keep xyz (fun _ z => z.elim)) (by have := xyz.n; omega) (jBd.le ((hB.le (p' := 18 + 42) (q' := 450 + 2550) (by omega) (by omega)).gw xyz) (by omega) (by omega))) fun q8 hq8 => ?_
  have w2 := hq8.2.2.2.1
  have G := xyz.trans w2 (C := fun _ => False) (fun a _ z => by rcases z with z | z <;> exact z)
  rw [hpat _ _ _ G, Option.bind_some]
  have Sd := (x1.keep ((y2.trans z2 (C := fun _ => False) (fun a _ z => by rcases z with z | z <;> exact z)).trans w2 (C := fun _ => False) (fun a _ z => by rcases z with z | z <;> exact z)) (fun z => z) (fun z => z)).1
  have z2w2 := z2.trans w2 (C := fun _ => False) (fun a _ z => by rcases z with z | z <;> exact z)
  obtain ⟨Sa, Ea⟩ := y1.keep z2w2 (fun z => z) (fun z => z)
  have Da : jK q8.1 (jF q8.1 q4.2 0) = 4001 ∨ jn s ≤ jF q8.1 q4.2 0 := by
    rw [Ea, z2w2.K y1.2.2.1.2.1]
    exact y3.imp (fun h => h) (fun h => by have := x2.n; omega)
  have Dp : jn s ≤ jF q8.1 q8.2 0 := by have := hq8.2.2.1; have := xyz.n; omega
  have Sb := (z1.keep w2 (fun z => z) (fun z => z)).1
  have Sp := hq8.1
  have hC8 := hC.keep G (fun _ z => z.elim)
  have hB8 : jBd q8.1 29 2300 := jBd.le ((hB.le (p' := 31 + 29) (q' := 700 + 2300) (by omega) (by omega)).gw G) (by omega) (by omega)
  have n8 : 0 ≤ jn q8.1 := by have := G.n; omega
  have fin : ∀ (u : jS) (z : Int) (L : List Int), pRs q8.1 u z L 29 2300 → pRs s u z L 60 3000 := fun u z L ⟨h1, h2, h3⟩ => ⟨h1, (G.trans h2 (C := fun _ => False) (fun a _ z => by rcases z with z | z <;> exact z)).mono (by omega) (by omega) (fun _ _ z => z), h3.imp (fun h => h) (fun h => by have := G.n; omega)⟩
  clear part hpat x1 y1 z1 hPP y3 Ea z2w2 hq8
  generalize hpt' : (cKd kd.toNat).1 = pt at hpt ⊢
  generalize q2.2 = zd at Sd ⊢
  generalize q4.2 = za at Sa Da ⊢
  generalize q6.2 = zb at Sb ⊢
  generalize q8.2 = zp at Sp Dp ⊢
  generalize q8.1 = s8 at *
  have cases16 : pt = 1 ∨ pt = 2 ∨ pt = 3 ∨ pt = 4 ∨ pt = 5 ∨ pt = 6 ∨ pt = 7 ∨ pt = 8 ∨ pt = 9 ∨ pt = 10 ∨ pt = 11 ∨ pt = 12 ∨ pt = 13 ∨ pt = 14 ∨ pt = 15 ∨ pt = 16 := by omega
  clear hpt hpt'
  rcases cases16 with rfl | rfl | rfl | rfl | rfl | rfl | rfl | rfl | rfl | rfl | rfl | rfl | rfl | rfl | rfl | rfl
  · rw [if_pos rfl]
    refine jE_mono (Q := fun q => pRs s8 q.1 q.2 (rgL d ++ cS 157 ++ rgL a ++ cS 157 ++ rgL b) 29 2300) ?_ fun q hq => fin _ _ _ hq
    obtain ⟨s1, t1, e1, e2, v0⟩ := bc_new (s := s8) (M := 80) n8 (by omega) (hB8.le (by omega) (by omega))
    rw [e1, Option.bind_some, e2, Option.bind_some]
    rw [jE_bind]
    refine jE_mono (bc_old v0 Sd (by omega) (by simp only [List.length_append, List.length_nil]; omega) (hB8.le (by omega) (by omega))) fun y0 ⟨f0, v1⟩ => ?_
    rw [f0, jct_in v1.1.tt]
    rw [v1.2.1.c, jE_bind]
    refine jE_mono (bc_old v1 (hC8.str (i := 157) (by omega)) (by omega) (by simp only [List.length_append, List.length_nil]; omega) (hB8.le (by omega) (by omega))) fun y1 ⟨f1, v2⟩ => ?_
    rw [f1, jct_in v2.1.tt]
    rw [jE_bind]
    refine jE_mono (bc_old v2 Sa (by omega) (by simp only [List.length_append, List.length_nil]; omega) (hB8.le (by omega) (by omega))) fun y2 ⟨f2, v3⟩ => ?_
    rw [f2, jct_in v3.1.tt]
    rw [v3.2.1.c, jE_bind]
    refine jE_mono (bc_old v3 (hC8.str (i := 157) (by omega)) (by omega) (by simp only [List.length_append, List.length_nil]; omega) (hB8.le (by omega) (by omega))) fun y3 ⟨f3, v4⟩ => ?_
    rw [f3, jct_in v4.1.tt]
    rw [jE_bind]
    refine jE_mono (bc_old v4 Sb (by omega) (by simp only [List.length_append, List.length_nil]; omega) (hB8.le (by omega) (by omega))) fun y4 ⟨f4, v5⟩ => ?_
    rw [f4, jct_in v5.1.tt]
    rw [jE_bind]
    refine jE_mono (bc_end v5 (by omega) (hB8.le (by omega) (by omega))) fun y hy => jE_some.mpr ?_
    have hy := hy.rs (P' := 29) (Q' := 2300) (by omega) (by omega)
    simp only [List.nil_append] at hy
    exact hy
  · rw [if_neg (by omega), if_pos rfl]
    refine jE_mono (Q := fun q => pRs s8 q.1 q.2 (rgL d ++ cS 157 ++ rgL a ++ cS 157 ++ decL i) 29 2300) ?_ fun q hq => fin _ _ _ hq
    obtain ⟨s1, t1, e1, e2, v0⟩ := bc_new (s := s8) (M := 80) n8 (by omega) (hB8.le (by omega) (by omega))
    rw [e1, Option.bind_some, e2, Option.bind_some]
    rw [jE_bind]
    refine jE_mono (bc_old v0 Sd (by omega) (by simp only [List.length_append, List.length_nil]; omega) (hB8.le (by omega) (by omega))) fun y0 ⟨f0, v1⟩ => ?_
    rw [f0, jct_in v1.1.tt]
    rw [v1.2.1.c, jE_bind]
    refine jE_mono (bc_old v1 (hC8.str (i := 157) (by omega)) (by omega) (by simp only [List.length_append, List.length_nil]; omega) (hB8.le (by omega) (by omega))) fun y1 ⟨f1, v2⟩ => ?_
    rw [f1, jct_in v2.1.tt]
    rw [jE_bind]
    refine jE_mono (bc_old v2 Sa (by omega) (by simp only [List.length_append, List.length_nil]; omega) (hB8.le (by omega) (by omega))) fun y2 ⟨f2, v3⟩ => ?_
    rw [f2, jct_in v3.1.tt]
    rw [v3.2.1.c, jE_bind]
    refine jE_mono (bc_old v3 (hC8.str (i := 157) (by omega)) (by omega) (by simp only [List.length_append, List.length_nil]; omega) (hB8.le (by omega) (by omega))) fun y3 ⟨f3, v4⟩ => ?_
    rw [f3, jct_in v4.1.tt]
    rw [jE_bind]
    refine jE_mono (bc_int v4 hC8 (by omega) (by omega) (by simp only [List.length_append, List.length_nil]; omega) (hB8.le (by omega) (by omega))) fun y4 ⟨f4, v5⟩ => ?_
    rw [f4, jct_in v5.1.tt]
    rw [jE_bind]
    refine jE_mono (bc_end v5 (by omega) (hB8.le (by omega) (by omega))) fun y hy => jE_some.mpr ?_
    have hy := hy.rs (P' := 29) (Q' := 2300) (by omega) (by omega)
    simp only [List.nil_append] at hy
    exact hy
  · rw [if_neg (by omega), if_neg (by omega), if_pos rfl]
    refine jE_mono (Q := fun q => pRs s8 q.1 q.2 (rgL d ++ cS 157 ++ decL i ++ cS 158 ++ rgL a ++ cS 159) 29 2300) ?_ fun q hq => fin _ _ _ hq
    obtain ⟨s1, t1, e1, e2, v0⟩ := bc_new (s := s8) (M := 80) n8 (by omega) (hB8.le (by omega) (by omega))
    rw [e1, Option.bind_some, e2, Option.bind_some]
    rw [jE_bind]
    refine jE_mono (bc_old v0 Sd (by omega) (by simp only [List.length_append, List.length_nil]; omega) (hB8.le (by omega) (by omega))) fun y0 ⟨f0, v1⟩ => ?_
    rw [f0, jct_in v1.1.tt]
    rw [v1.2.1.c, jE_bind]
    refine jE_mono (bc_old v1 (hC8.str (i := 157) (by omega)) (by omega) (by simp only [List.length_append, List.length_nil]; omega) (hB8.le (by omega) (by omega))) fun y1 ⟨f1, v2⟩ => ?_
    rw [f1, jct_in v2.1.tt]
    rw [jE_bind]
    refine jE_mono (bc_int v2 hC8 (by omega) (by omega) (by simp only [List.length_append, List.length_nil]; omega) (hB8.le (by omega) (by omega))) fun y2 ⟨f2, v3⟩ => ?_
    rw [f2, jct_in v3.1.tt]
    rw [v3.2.1.c, jE_bind]
    refine jE_mono (bc_old v3 (hC8.str (i := 158) (by omega)) (by omega) (by simp only [List.length_append, List.length_nil]; omega) (hB8.le (by omega) (by omega))) fun y3 ⟨f3, v4⟩ => ?_
    rw [f3, jct_in v4.1.tt]
    rw [jE_bind]
    refine jE_mono (bc_old v4 Sa (by omega) (by simp only [List.length_append, List.length_nil]; omega) (hB8.le (by omega) (by omega))) fun y4 ⟨f4, v5⟩ => ?_
    rw [f4, jct_in v5.1.tt]
    rw [v5.2.1.c, jE_bind]
    refine jE_mono (bc_old v5 (hC8.str (i := 159) (by omega)) (by omega) (by simp only [List.length_append, List.length_nil]; omega) (hB8.le (by omega) (by omega))) fun y5 ⟨f5, v6⟩ => ?_
    rw [f5, jct_in v6.1.tt]
    rw [jE_bind]
    refine jE_mono (bc_end v6 (by omega) (hB8.le (by omega) (by omega))) fun y hy => jE_some.mpr ?_
    have hy := hy.rs (P' := 29) (Q' := 2300) (by omega) (by omega)
    simp only [List.nil_append] at hy
    exact hy
  · rw [if_neg (by omega), if_neg (by omega), if_neg (by omega), if_pos rfl]
    refine jE_mono (Q := fun q => pRs s8 q.1 q.2 (rgL b ++ cS 157 ++ decL i ++ cS 158 ++ rgL a ++ cS 159) 29 2300) ?_ fun q hq => fin _ _ _ hq
    obtain ⟨s1, t1, e1, e2, v0⟩ := bc_new (s := s8) (M := 80) n8 (by omega) (hB8.le (by omega) (by omega))
    rw [e1, Option.bind_some, e2, Option.bind_some]
    rw [jE_bind]
    refine jE_mono (bc_old v0 Sb (by omega) (by simp only [List.length_append, List.length_nil]; omega) (hB8.le (by omega) (by omega))) fun y0 ⟨f0, v1⟩ => ?_
    rw [f0, jct_in v1.1.tt]
    rw [v1.2.1.c, jE_bind]
    refine jE_mono (bc_old v1 (hC8.str (i := 157) (by omega)) (by omega) (by simp only [List.length_append, List.length_nil]; omega) (hB8.le (by omega) (by omega))) fun y1 ⟨f1, v2⟩ => ?_
    rw [f1, jct_in v2.1.tt]
    rw [jE_bind]
    refine jE_mono (bc_int v2 hC8 (by omega) (by omega) (by simp only [List.length_append, List.length_nil]; omega) (hB8.le (by omega) (by omega))) fun y2 ⟨f2, v3⟩ => ?_
    rw [f2, jct_in v3.1.tt]
    rw [v3.2.1.c, jE_bind]
    refine jE_mono (bc_old v3 (hC8.str (i := 158) (by omega)) (by omega) (by simp only [List.length_append, List.length_nil]; omega) (hB8.le (by omega) (by omega))) fun y3 ⟨f3, v4⟩ => ?_
    rw [f3, jct_in v4.1.tt]
    rw [jE_bind]
    refine jE_mono (bc_old v4 Sa (by omega) (by simp only [List.length_append, List.length_nil]; omega) (hB8.le (by omega) (by omega))) fun y4 ⟨f4, v5⟩ => ?_
    rw [f4, jct_in v5.1.tt]
    rw [v5.2.1.c, jE_bind]
    refine jE_mono (bc_old v5 (hC8.str (i := 159) (by omega)) (by omega) (by simp only [List.length_append, List.length_nil]; omega) (hB8.le (by omega) (by omega))) fun y5 ⟨f5, v6⟩ => ?_
    rw [f5, jct_in v6.1.tt]
    rw [jE_bind]
    refine jE_mono (bc_end v6 (by omega) (hB8.le (by omega) (by omega))) fun y hy => jE_some.mpr ?_
    have hy := hy.rs (P' := 29) (Q' := 2300) (by omega) (by omega)
    simp only [List.nil_append] at hy
    exact hy
  · rw [if_neg (by omega), if_neg (by omega), if_neg (by omega), if_neg (by omega), if_pos rfl]
    refine jE_mono (Q := fun q => pRs s8 q.1 q.2 (rgL a ++ cS 157 ++ rgL b ++ cS 157 ++ hxL p) 29 2300) ?_ fun q hq => fin _ _ _ hq
    obtain ⟨s1, t1, e1, e2, v0⟩ := bc_new (s := s8) (M := 80) n8 (by omega) (hB8.le (by omega) (by omega))
    rw [e1, Option.bind_some, e2, Option.bind_some]
    rw [jE_bind]
    refine jE_mono (bc_old v0 Sa (by omega) (by simp only [List.length_append, List.length_nil]; omega) (hB8.le (by omega) (by omega))) fun y0 ⟨f0, v1⟩ => ?_
    rw [f0, jct_in v1.1.tt]
    rw [v1.2.1.c, jE_bind]
    refine jE_mono (bc_old v1 (hC8.str (i := 157) (by omega)) (by omega) (by simp only [List.length_append, List.length_nil]; omega) (hB8.le (by omega) (by omega))) fun y1 ⟨f1, v2⟩ => ?_
    rw [f1, jct_in v2.1.tt]
    rw [jE_bind]
    refine jE_mono (bc_old v2 Sb (by omega) (by simp only [List.length_append, List.length_nil]; omega) (hB8.le (by omega) (by omega))) fun y2 ⟨f2, v3⟩ => ?_
    rw [f2, jct_in v3.1.tt]
    rw [v3.2.1.c, jE_bind]
    refine jE_mono (bc_old v3 (hC8.str (i := 157) (by omega)) (by omega) (by simp only [List.length_append, List.length_nil]; omega) (hB8.le (by omega) (by omega))) fun y3 ⟨f3, v4⟩ => ?_
    rw [f3, jct_in v4.1.tt]
    rw [jE_bind]
    refine jE_mono (bc_old v4 Sp (by omega) (by simp only [List.length_append, List.length_nil]; omega) (hB8.le (by omega) (by omega))) fun y4 ⟨f4, v5⟩ => ?_
    rw [f4, jct_in v5.1.tt]
    rw [jE_bind]
    refine jE_mono (bc_end v5 (by omega) (hB8.le (by omega) (by omega))) fun y hy => jE_some.mpr ?_
    have hy := hy.rs (P' := 29) (Q' := 2300) (by omega) (by omega)
    simp only [List.nil_append] at hy
    exact hy
  · rw [if_neg (by omega), if_neg (by omega), if_neg (by omega), if_neg (by omega), if_neg (by omega), if_pos rfl]
    refine jE_mono (Q := fun q => pRs s8 q.1 q.2 (rgL d ++ cS 157 ++ hxL i) 29 2300) ?_ fun q hq => fin _ _ _ hq
    obtain ⟨s1, t1, e1, e2, v0⟩ := bc_new (s := s8) (M := 80) n8 (by omega) (hB8.le (by omega) (by omega))
    rw [e1, Option.bind_some, e2, Option.bind_some]
    rw [jE_bind]
    refine jE_mono (bc_old v0 Sd (by omega) (by simp only [List.length_append, List.length_nil]; omega) (hB8.le (by omega) (by omega))) fun y0 ⟨f0, v1⟩ => ?_
    rw [f0, jct_in v1.1.tt]
    rw [v1.2.1.c, jE_bind]
    refine jE_mono (bc_old v1 (hC8.str (i := 157) (by omega)) (by omega) (by simp only [List.length_append, List.length_nil]; omega) (hB8.le (by omega) (by omega))) fun y1 ⟨f1, v2⟩ => ?_
    rw [f1]
    rw [jE_bind]
    refine jE_mono (c_hex (hC8.keep v2.2.1 (fun _ z => z.elim)) (by have := v2.2.1.n; omega) ((hB8.le (by omega) (by omega)).gw v2.2.1 (p' := 13) (q' := 250))) fun hx hhx => ?_
    obtain ⟨vh, vf⟩ := bc_grow v2 hhx.2.2.2.1
    rw [jct_in vh.1.tt, jE_bind]
    refine jE_mono (bc_str vh hhx.1 (by have := hhx.2.2.1; have := v2.1.2.2.2.1.2.1; rw [vf]; omega) (by omega) (by simp only [List.length_append, List.length_nil]; omega) (hB8.le (by omega) (by omega))) fun y2 ⟨f2, v3⟩ => ?_
    rw [f2, jct_in v3.1.tt]
    rw [jE_bind]
    refine jE_mono (bc_end v3 (by omega) (hB8.le (by omega) (by omega))) fun y hy => jE_some.mpr ?_
    have hy := hy.rs (P' := 29) (Q' := 2300) (by omega) (by omega)
    simp only [List.nil_append] at hy
    exact hy
  · rw [if_neg (by omega), if_neg (by omega), if_neg (by omega), if_neg (by omega), if_neg (by omega), if_neg (by omega), if_pos rfl]
    refine jE_mono (Q := fun q => pRs s8 q.1 q.2 (rgL d ++ cS 157 ++ hxL p) 29 2300) ?_ fun q hq => fin _ _ _ hq
    obtain ⟨s1, t1, e1, e2, v0⟩ := bc_new (s := s8) (M := 80) n8 (by omega) (hB8.le (by omega) (by omega))
    rw [e1, Option.bind_some, e2, Option.bind_some]
    rw [jE_bind]
    refine jE_mono (bc_old v0 Sd (by omega) (by simp only [List.length_append, List.length_nil]; omega) (hB8.le (by omega) (by omega))) fun y0 ⟨f0, v1⟩ => ?_
    rw [f0, jct_in v1.1.tt]
    rw [v1.2.1.c, jE_bind]
    refine jE_mono (bc_old v1 (hC8.str (i := 157) (by omega)) (by omega) (by simp only [List.length_append, List.length_nil]; omega) (hB8.le (by omega) (by omega))) fun y1 ⟨f1, v2⟩ => ?_
    rw [f1, jct_in v2.1.tt]
    rw [jE_bind]
    refine jE_mono (bc_old v2 Sp (by omega) (by simp only [List.length_append, List.length_nil]; omega) (hB8.le (by omega) (by omega))) fun y2 ⟨f2, v3⟩ => ?_
    rw [f2, jct_in v3.1.tt]
    rw [jE_bind]
    refine jE_mono (bc_end v3 (by omega) (hB8.le (by omega) (by omega))) fun y hy => jE_some.mpr ?_
    have hy := hy.rs (P' := 29) (Q' := 2300) (by omega) (by omega)
    simp only [List.nil_append] at hy
    exact hy
  · rw [if_neg (by omega), if_neg (by omega), if_neg (by omega), if_neg (by omega), if_neg (by omega), if_neg (by omega), if_neg (by omega), if_pos rfl]
    exact jE_some.mpr ⟨Sp, G.mono (by omega) (by omega) (fun _ _ z => z), .inr Dp⟩
  · rw [if_neg (by omega), if_neg (by omega), if_neg (by omega), if_neg (by omega), if_neg (by omega), if_neg (by omega), if_neg (by omega), if_neg (by omega), if_pos rfl]
    refine jE_mono (Q := fun q => pRs s8 q.1 q.2 (rgL a ++ cS 157 ++ hxL p) 29 2300) ?_ fun q hq => fin _ _ _ hq
    obtain ⟨s1, t1, e1, e2, v0⟩ := bc_new (s := s8) (M := 80) n8 (by omega) (hB8.le (by omega) (by omega))
    rw [e1, Option.bind_some, e2, Option.bind_some]
    rw [jE_bind]
    refine jE_mono (bc_old v0 Sa (by omega) (by simp only [List.length_append, List.length_nil]; omega) (hB8.le (by omega) (by omega))) fun y0 ⟨f0, v1⟩ => ?_
    rw [f0, jct_in v1.1.tt]
    rw [v1.2.1.c, jE_bind]
    refine jE_mono (bc_old v1 (hC8.str (i := 157) (by omega)) (by omega) (by simp only [List.length_append, List.length_nil]; omega) (hB8.le (by omega) (by omega))) fun y1 ⟨f1, v2⟩ => ?_
    rw [f1, jct_in v2.1.tt]
    rw [jE_bind]
    refine jE_mono (bc_old v2 Sp (by omega) (by simp only [List.length_append, List.length_nil]; omega) (hB8.le (by omega) (by omega))) fun y2 ⟨f2, v3⟩ => ?_
    rw [f2, jct_in v3.1.tt]
    rw [jE_bind]
    refine jE_mono (bc_end v3 (by omega) (hB8.le (by omega) (by omega))) fun y hy => jE_some.mpr ?_
    have hy := hy.rs (P' := 29) (Q' := 2300) (by omega) (by omega)
    simp only [List.nil_append] at hy
    exact hy
  · rw [if_neg (by omega), if_neg (by omega), if_neg (by omega), if_neg (by omega), if_neg (by omega), if_neg (by omega), if_neg (by omega), if_neg (by omega), if_neg (by omega), if_pos rfl]
    refine jE_mono (Q := fun q => pRs s8 q.1 q.2 (rgL d ++ cS 157 ++ rgL b) 29 2300) ?_ fun q hq => fin _ _ _ hq
    obtain ⟨s1, t1, e1, e2, v0⟩ := bc_new (s := s8) (M := 80) n8 (by omega) (hB8.le (by omega) (by omega))
    rw [e1, Option.bind_some, e2, Option.bind_some]
    rw [jE_bind]
    refine jE_mono (bc_old v0 Sd (by omega) (by simp only [List.length_append, List.length_nil]; omega) (hB8.le (by omega) (by omega))) fun y0 ⟨f0, v1⟩ => ?_
    rw [f0, jct_in v1.1.tt]
    rw [v1.2.1.c, jE_bind]
    refine jE_mono (bc_old v1 (hC8.str (i := 157) (by omega)) (by omega) (by simp only [List.length_append, List.length_nil]; omega) (hB8.le (by omega) (by omega))) fun y1 ⟨f1, v2⟩ => ?_
    rw [f1, jct_in v2.1.tt]
    rw [jE_bind]
    refine jE_mono (bc_old v2 Sb (by omega) (by simp only [List.length_append, List.length_nil]; omega) (hB8.le (by omega) (by omega))) fun y2 ⟨f2, v3⟩ => ?_
    rw [f2, jct_in v3.1.tt]
    rw [jE_bind]
    refine jE_mono (bc_end v3 (by omega) (hB8.le (by omega) (by omega))) fun y hy => jE_some.mpr ?_
    have hy := hy.rs (P' := 29) (Q' := 2300) (by omega) (by omega)
    simp only [List.nil_append] at hy
    exact hy
  · rw [if_neg (by omega), if_neg (by omega), if_neg (by omega), if_neg (by omega), if_neg (by omega), if_neg (by omega), if_neg (by omega), if_neg (by omega), if_neg (by omega), if_neg (by omega), if_pos rfl]
    exact jE_some.mpr ⟨Sa, G.mono (by omega) (by omega) (fun _ _ z => z), Da⟩
  · rw [if_neg (by omega), if_neg (by omega), if_neg (by omega), if_neg (by omega), if_neg (by omega), if_neg (by omega), if_neg (by omega), if_neg (by omega), if_neg (by omega), if_neg (by omega), if_neg (by omega), if_pos rfl]
    refine jE_mono (Q := fun q => pRs s8 q.1 q.2 (rgL d ++ cS 157 ++ decL i) 29 2300) ?_ fun q hq => fin _ _ _ hq
    obtain ⟨s1, t1, e1, e2, v0⟩ := bc_new (s := s8) (M := 80) n8 (by omega) (hB8.le (by omega) (by omega))
    rw [e1, Option.bind_some, e2, Option.bind_some]
    rw [jE_bind]
    refine jE_mono (bc_old v0 Sd (by omega) (by simp only [List.length_append, List.length_nil]; omega) (hB8.le (by omega) (by omega))) fun y0 ⟨f0, v1⟩ => ?_
    rw [f0, jct_in v1.1.tt]
    rw [v1.2.1.c, jE_bind]
    refine jE_mono (bc_old v1 (hC8.str (i := 157) (by omega)) (by omega) (by simp only [List.length_append, List.length_nil]; omega) (hB8.le (by omega) (by omega))) fun y1 ⟨f1, v2⟩ => ?_
    rw [f1, jct_in v2.1.tt]
    rw [jE_bind]
    refine jE_mono (bc_int v2 hC8 (by omega) (by omega) (by simp only [List.length_append, List.length_nil]; omega) (hB8.le (by omega) (by omega))) fun y2 ⟨f2, v3⟩ => ?_
    rw [f2, jct_in v3.1.tt]
    rw [jE_bind]
    refine jE_mono (bc_end v3 (by omega) (hB8.le (by omega) (by omega))) fun y hy => jE_some.mpr ?_
    have hy := hy.rs (P' := 29) (Q' := 2300) (by omega) (by omega)
    simp only [List.nil_append] at hy
    exact hy
  · rw [if_neg (by omega), if_neg (by omega), if_neg (by omega), if_neg (by omega), if_neg (by omega), if_neg (by omega), if_neg (by omega), if_neg (by omega), if_neg (by omega), if_neg (by omega), if_neg (by omega), if_neg (by omega), if_pos rfl]
    refine jE_mono (Q := fun q => pRs s8 q.1 q.2 (rgL d ++ cS 157 ++ decL i ++ cS 160) 29 2300) ?_ fun q hq => fin _ _ _ hq
    obtain ⟨s1, t1, e1, e2, v0⟩ := bc_new (s := s8) (M := 80) n8 (by omega) (hB8.le (by omega) (by omega))
    rw [e1, Option.bind_some, e2, Option.bind_some]
    rw [jE_bind]
    refine jE_mono (bc_old v0 Sd (by omega) (by simp only [List.length_append, List.length_nil]; omega) (hB8.le (by omega) (by omega))) fun y0 ⟨f0, v1⟩ => ?_
    rw [f0, jct_in v1.1.tt]
    rw [v1.2.1.c, jE_bind]
    refine jE_mono (bc_old v1 (hC8.str (i := 157) (by omega)) (by omega) (by simp only [List.length_append, List.length_nil]; omega) (hB8.le (by omega) (by omega))) fun y1 ⟨f1, v2⟩ => ?_
    rw [f1, jct_in v2.1.tt]
    rw [jE_bind]
    refine jE_mono (bc_int v2 hC8 (by omega) (by omega) (by simp only [List.length_append, List.length_nil]; omega) (hB8.le (by omega) (by omega))) fun y2 ⟨f2, v3⟩ => ?_
    rw [f2, jct_in v3.1.tt]
    rw [v3.2.1.c, jE_bind]
    refine jE_mono (bc_old v3 (hC8.str (i := 160) (by omega)) (by omega) (by simp only [List.length_append, List.length_nil]; omega) (hB8.le (by omega) (by omega))) fun y3 ⟨f3, v4⟩ => ?_
    rw [f3, jct_in v4.1.tt]
    rw [jE_bind]
    refine jE_mono (bc_end v4 (by omega) (hB8.le (by omega) (by omega))) fun y hy => jE_some.mpr ?_
    have hy := hy.rs (P' := 29) (Q' := 2300) (by omega) (by omega)
    simp only [List.nil_append] at hy
    exact hy
  · rw [if_neg (by omega), if_neg (by omega), if_neg (by omega), if_neg (by omega), if_neg (by omega), if_neg (by omega), if_neg (by omega), if_neg (by omega), if_neg (by omega), if_neg (by omega), if_neg (by omega), if_neg (by omega), if_neg (by omega), if_pos rfl]
    refine jE_mono (Q := fun q => pRs s8 q.1 q.2 (rgL b ++ cS 157 ++ decL i ++ cS 160) 29 2300) ?_ fun q hq => fin _ _ _ hq
    obtain ⟨s1, t1, e1, e2, v0⟩ := bc_new (s := s8) (M := 80) n8 (by omega) (hB8.le (by omega) (by omega))
    rw [e1, Option.bind_some, e2, Option.bind_some]
    rw [jE_bind]
    refine jE_mono (bc_old v0 Sb (by omega) (by simp only [List.length_append, List.length_nil]; omega) (hB8.le (by omega) (by omega))) fun y0 ⟨f0, v1⟩ => ?_
    rw [f0, jct_in v1.1.tt]
    rw [v1.2.1.c, jE_bind]
    refine jE_mono (bc_old v1 (hC8.str (i := 157) (by omega)) (by omega) (by simp only [List.length_append, List.length_nil]; omega) (hB8.le (by omega) (by omega))) fun y1 ⟨f1, v2⟩ => ?_
    rw [f1, jct_in v2.1.tt]
    rw [jE_bind]
    refine jE_mono (bc_int v2 hC8 (by omega) (by omega) (by simp only [List.length_append, List.length_nil]; omega) (hB8.le (by omega) (by omega))) fun y2 ⟨f2, v3⟩ => ?_
    rw [f2, jct_in v3.1.tt]
    rw [v3.2.1.c, jE_bind]
    refine jE_mono (bc_old v3 (hC8.str (i := 160) (by omega)) (by omega) (by simp only [List.length_append, List.length_nil]; omega) (hB8.le (by omega) (by omega))) fun y3 ⟨f3, v4⟩ => ?_
    rw [f3, jct_in v4.1.tt]
    rw [jE_bind]
    refine jE_mono (bc_end v4 (by omega) (hB8.le (by omega) (by omega))) fun y hy => jE_some.mpr ?_
    have hy := hy.rs (P' := 29) (Q' := 2300) (by omega) (by omega)
    simp only [List.nil_append] at hy
    exact hy
  · rw [if_neg (by omega), if_neg (by omega), if_neg (by omega), if_neg (by omega), if_neg (by omega), if_neg (by omega), if_neg (by omega), if_neg (by omega), if_neg (by omega), if_neg (by omega), if_neg (by omega), if_neg (by omega), if_neg (by omega), if_neg (by omega), if_pos rfl]
    refine jE_mono (Q := fun q => pRs s8 q.1 q.2 (rgL d ++ cS 161 ++ decL i) 29 2300) ?_ fun q hq => fin _ _ _ hq
    obtain ⟨s1, t1, e1, e2, v0⟩ := bc_new (s := s8) (M := 80) n8 (by omega) (hB8.le (by omega) (by omega))
    rw [e1, Option.bind_some, e2, Option.bind_some]
    rw [jE_bind]
    refine jE_mono (bc_old v0 Sd (by omega) (by simp only [List.length_append, List.length_nil]; omega) (hB8.le (by omega) (by omega))) fun y0 ⟨f0, v1⟩ => ?_
    rw [f0, jct_in v1.1.tt]
    rw [v1.2.1.c, jE_bind]
    refine jE_mono (bc_old v1 (hC8.str (i := 161) (by omega)) (by omega) (by simp only [List.length_append, List.length_nil]; omega) (hB8.le (by omega) (by omega))) fun y1 ⟨f1, v2⟩ => ?_
    rw [f1, jct_in v2.1.tt]
    rw [jE_bind]
    refine jE_mono (bc_int v2 hC8 (by omega) (by omega) (by simp only [List.length_append, List.length_nil]; omega) (hB8.le (by omega) (by omega))) fun y2 ⟨f2, v3⟩ => ?_
    rw [f2, jct_in v3.1.tt]
    rw [jE_bind]
    refine jE_mono (bc_end v3 (by omega) (hB8.le (by omega) (by omega))) fun y hy => jE_some.mpr ?_
    have hy := hy.rs (P' := 29) (Q' := 2300) (by omega) (by omega)
    simp only [List.nil_append] at hy
    exact hy
  · rw [if_neg (by omega), if_neg (by omega), if_neg (by omega), if_neg (by omega), if_neg (by omega), if_neg (by omega), if_neg (by omega), if_neg (by omega), if_neg (by omega), if_neg (by omega), if_neg (by omega), if_neg (by omega), if_neg (by omega), if_neg (by omega), if_neg (by omega)]
    refine jE_mono (Q := fun q => pRs s8 q.1 q.2 (cS 162 ++ decL i) 29 2300) ?_ fun q hq => fin _ _ _ hq
    obtain ⟨s1, t1, e1, e2, v0⟩ := bc_new (s := s8) (M := 80) n8 (by omega) (hB8.le (by omega) (by omega))
    rw [e1, Option.bind_some, e2, Option.bind_some]
    rw [v0.2.1.c, jE_bind]
    refine jE_mono (bc_old v0 (hC8.str (i := 162) (by omega)) (by omega) (by simp only [List.length_append, List.length_nil]; omega) (hB8.le (by omega) (by omega))) fun y0 ⟨f0, v1⟩ => ?_
    rw [f0, jct_in v1.1.tt]
    rw [jE_bind]
    refine jE_mono (bc_int v1 hC8 (by omega) (by omega) (by simp only [List.length_append, List.length_nil]; omega) (hB8.le (by omega) (by omega))) fun y1 ⟨f1, v2⟩ => ?_
    rw [f1, jct_in v2.1.tt]
    rw [jE_bind]
    refine jE_mono (bc_end v2 (by omega) (hB8.le (by omega) (by omega))) fun y hy => jE_some.mpr ?_
    have hy := hy.rs (P' := 29) (Q' := 2300) (by omega) (by omega)
    simp only [List.nil_append] at hy
    exact hy
/-! the twin's -/
def sepL (f : Int) : List Int := if f = 0 then [32] else cS 157
/-- the twin at work on its text: since t only the text differs; n bounds its length -/
def tC (t u : jS) (V : Int) (l : List Int) (f : Int) (q : jP4) (n : Nat) : Prop := pTx u V l f ∧ tFr t u V ∧ l.length ≤ n ∧ ∀ e : Int, 0 ≤ e → e < 4 → jlt u 1000 (V + 2) 4 e = some (p4g q e.toNat)
theorem tC.say {q : jP4} {n : Nat} {c : Int} (h : tC t u V l f q n) (hn : n < 80) : ∃ z, m_X38_say u V c = some (z, 0) ∧ tC t z V (l ++ [c]) f q (n + 1) := by
  obtain ⟨h1, h2, h3, h4⟩ := h
  obtain ⟨z, e, g1, g2⟩ := t_say (c := c) h1 (by omega)
  refine ⟨z, e, g1, h2.trans g2, by rw [List.length_append]; show l.length + 1 ≤ n + 1; omega, fun e e0 e1 => ?_⟩
  rw [← h4 e e0 e1, jlt_in e0 e1, jlt_in e0 e1, g2.2 _ _ _ (by omega) (by omega)]
theorem tC.of {q : jP4} {n N : Nat} {l' : List Int} {z : jS} (h : tC t u V l f q n) (g1 : pTx z V l' f) (g2 : tFr u z V) (hl : l'.length ≤ N) : tC t z V l' f q N := by
  obtain ⟨h1, h2, h3, h4⟩ := h
  refine ⟨g1, h2.trans g2, hl, fun e e0 e1 => ?_⟩
  rw [← h4 e e0 e1, jlt_in e0 e1, jlt_in e0 e1, g2.2 _ _ _ (by omega) (by omega)]
theorem tC.mono {q : jP4} {n N : Nat} (h : tC t u V l f q n) (g : n ≤ N) : tC t u V l f q N := ⟨h.1, h.2.1, Nat.le_trans h.2.2.1 g, h.2.2.2⟩
theorem sep_0 : sepL 0 = [32] := if_pos rfl
theorem sep_1 : sepL 1 = cS 157 := if_neg (by omega)
theorem cS_sp : cS 160 = cS 158 ++ (rgL 2 ++ cS 159) ∧ cS 161 = cS 157 ++ (rgL 2 ++ cS 157) ∧ cS 162 = rgL 2 ++ cS 157 := by decide
theorem tC.ahead {q : jP4} {n : Nat} (h : tC t u V l f q n) (hn : n + 1 < 80) (hf : f = 0 ∨ f = 1) : ∃ z, m_X38_ahead u V = some (z, 0) ∧ tC t z V (l ++ sepL f) 1 q (n + 2) := by
  rw [em_X38_ahead]; unfold dm_X38_ahead
  rw [h.1.2.2.1]
  have key : ∀ (u : jS) (l : List Int) (f : Int) (n : Nat), tC t u V l f q n → n < 80 → ∃ z, u_X38_ahead_13 u V = some (z, 0) ∧ tC t z V (l ++ [32]) 1 q (n + 1) := by
    intro u l f n h hn
    obtain ⟨z, e, g1, g2, g3, g4⟩ := h.say (c := 32) hn
    obtain ⟨k1, k2, k3, k4⟩ := g1
    refine ⟨jp z 42 V 5 1, ?_, ⟨by rw [jf_jp, if_neg (by omega)]; exact k1, k2, by rw [jf_jp, if_pos ⟨rfl, rfl, rfl⟩], fun i hi => by rw [jf_jp, if_neg (by omega)]; exact k4 i hi⟩, ⟨g2.1.jp, fun c a k q1 q2 => by rw [jf_jp, if_neg (fun z => q1 ⟨z.1, z.2.1, .inr z.2.2⟩)]; exact g2.2 c a k q1 q2⟩, g3, fun e e0 e1 => ?_⟩
    · rw [eu_X38_ahead_13]; unfold du_X38_ahead_13
      rw [e, Option.bind_some, jzb_in (.inr rfl)]; rfl
    · rw [← g4 e e0 e1, jlt_in e0 e1, jlt_in e0 e1, jf_jp, if_neg (by omega)]
  rcases hf with rfl | rfl
  · rw [if_pos rfl]
    obtain ⟨z, e, h1⟩ := key u l 0 n h (by omega)
    obtain ⟨x1, x2, x3, x4⟩ := h1
    exact ⟨z, e, x1, x2, by show (l ++ [32]).length ≤ n + 2; omega, x4⟩
  · rw [if_neg (by omega)]
    obtain ⟨z1, e1, h1⟩ := h.say (c := 44) (by omega)
    obtain ⟨z, e, h2⟩ := key z1 _ 1 (n + 1) h1 (by omega)
    refine ⟨z, by rw [e1, Option.bind_some, e], ?_⟩
    rw [List.append_assoc] at h2
    exact h2
theorem tC.reg {q : jP4} {n : Nat} {r : Int} (h : tC t u V l f q n) (hn : n + 6 ≤ 80) (hf : f = 0 ∨ f = 1) (r0 : 0 ≤ r) (r1 : r ≤ 31) : ∃ z, m_X38_register u V r = some (z, 0) ∧ tC t z V (l ++ sepL f ++ rgL r) 1 q (n + 6) := by
  obtain ⟨z1, e1, h1⟩ := h.ahead (by omega) hf
  obtain ⟨b1, b2, b3, -⟩ := tab_rg r.toNat (by omega)
  rw [show ((r.toNat : Nat) : Int) = r by omega] at b1 b2 b3
  have h13 := h1.2.2.1
  obtain ⟨z, e, g1, g2⟩ := t_sayName b1 (by omega) h1.1 (by unfold rgL at b3; omega)
  refine ⟨z, ?_, h1.of g1 g2 ?_⟩
  · rw [em_X38_register]; unfold dm_X38_register
    rw [e1, Option.bind_some, e_X38_registerOf, Option.bind_some, e]; rfl
  · rw [List.length_append]; omega
theorem tC.num {q : jP4} {n : Nat} (h : tC t u V l f q n) (hn : n + 13 ≤ 80) (hf : f = 0 ∨ f = 1) (hi : -1048576 ≤ q.2.2.2 ∧ q.2.2.2 ≤ 1048575) : ∃ z, m_X38_number u V = some (z, 0) ∧ tC t z V (l ++ sepL f ++ decL q.2.2.2) 1 q (n + 13) := by
  obtain ⟨z1, e1, h1⟩ := h.ahead (by omega) hf
  have hl := decL_le q.2.2.2
  have h13 := h1.2.2.1
  obtain ⟨z, e, g1, g2⟩ := t_sayDec (x := q.2.2.2) (by omega) h1.1 (by omega)
  refine ⟨z, ?_, h1.of g1 g2 ?_⟩
  · rw [em_X38_number]; unfold dm_X38_number
    rw [e1, Option.bind_some, show jlt z1 1000 (V + 2) 4 3 = some q.2.2.2 from h1.2.2.2 3 (by omega) (by omega), Option.bind_some, e]; rfl
  · rw [List.length_append]; omega
theorem tC.place {q : jP4} {n : Nat} {pl : Int} (h : tC t u V l f q n) (hn : n + 12 ≤ 80) (hf : f = 0 ∨ f = 1) : ∃ z, m_X38_place u V pl = some (z, 0) ∧ tC t z V (l ++ sepL f ++ hxL (W32 (pl + q.2.2.2))) 1 q (n + 12) := by
  obtain ⟨z1, e1, h1⟩ := h.ahead (by omega) hf
  have hl := hxL_len (W32 (pl + q.2.2.2))
  have h13 := h1.2.2.1
  obtain ⟨z, e, g1, g2⟩ := t_sayHex (w := W32 (pl + q.2.2.2)) h1.1 (by omega)
  refine ⟨z, ?_, h1.of g1 g2 ?_⟩
  · rw [em_X38_place]; unfold dm_X38_place
    rw [e1, Option.bind_some, show jlt z1 1000 (V + 2) 4 3 = some q.2.2.2 from h1.2.2.2 3 (by omega) (by omega), Option.bind_some, e]; rfl
  · rw [List.length_append]; omega
theorem tC.offs {q : jP4} {n : Nat} {r : Int} (h : tC t u V l f q n) (hn : n + 19 ≤ 80) (hf : f = 0 ∨ f = 1) (hi : -1048576 ≤ q.2.2.2 ∧ q.2.2.2 ≤ 1048575) (r0 : 0 ≤ r) (r1 : r ≤ 31) : ∃ z, m_X38_offset u V r = some (z, 0) ∧ tC t z V (l ++ sepL f ++ decL q.2.2.2 ++ cS 158 ++ rgL r ++ cS 159) 1 q (n + 19) := by
  obtain ⟨z1, e1, h1⟩ := h.ahead (by omega) hf
  have hl := decL_le q.2.2.2
  have h13 := h1.2.2.1
  obtain ⟨z2, e2, g1, g2⟩ := t_sayDec (x := q.2.2.2) (by omega) h1.1 (by omega)
  have h2 := h1.of (N := n + 13) g1 g2 (by rw [List.length_append]; omega)
  obtain ⟨z3, e3, h3⟩ := h2.say (c := 40) (by omega)
  obtain ⟨b1, b2, b3, -⟩ := tab_rg r.toNat (by omega)
  rw [show ((r.toNat : Nat) : Int) = r by omega] at b1 b2 b3
  have h33 := h3.2.2.1
  obtain ⟨z4, e4, g3, g4⟩ := t_sayName b1 (by omega) h3.1 (by unfold rgL at b3; omega)
  have h4 := h3.of (N := n + 18) g3 g4 (by rw [List.length_append]; unfold rgL at b3; omega)
  obtain ⟨z5, e5, h5⟩ := h4.say (c := 41) (by omega)
  refine ⟨z5, ?_, h5⟩
  rw [em_X38_offset]; unfold dm_X38_offset
  rw [e1, Option.bind_some, show jlt z1 1000 (V + 2) 4 3 = some q.2.2.2 from h1.2.2.2 3 (by omega) (by omega), Option.bind_some, e2, Option.bind_some, e3, Option.bind_some, e_X38_registerOf, Option.bind_some, e4, Option.bind_some, e5]; rfl
theorem t_opers {d a b i pl pt : Int} {n : Nat} (h : tC t u V l 0 (d, a, b, i) n) (hn : n + 45 ≤ 80) (hd : 0 ≤ d ∧ d ≤ 31) (ha : 0 ≤ a ∧ a ≤ 31) (hb : 0 ≤ b ∧ b ≤ 31) (hi : -1048576 ≤ i ∧ i ≤ 1048575) (hpt : 0 ≤ pt ∧ pt ≤ 16) :
    ∃ z N, m_X38_operands u V pt pl = some (z, 0) ∧ N ≤ 80 ∧ tC t z V (l ++ (if pt = 0 then [] else 32 :: opL pt d a b i (W32 (pl + i)))) (if pt = 0 then 0 else 1) (d, a, b, i) N := by
  have cases17 : pt = 0 ∨ pt = 1 ∨ pt = 2 ∨ pt = 3 ∨ pt = 4 ∨ pt = 5 ∨ pt = 6 ∨ pt = 7 ∨ pt = 8 ∨ pt = 9 ∨ pt = 10 ∨ pt = 11 ∨ pt = 12 ∨ pt = 13 ∨ pt = 14 ∨ pt = 15 ∨ pt = 16 := by omega
  have rd : ∀ (z : jS) (l : List Int) (f : Int) (n : Nat), tC t z V l f (d, a, b, i) n → jlt z 1000 (V + 2) 4 0 = some d ∧ jlt z 1000 (V + 2) 4 1 = some a ∧ jlt z 1000 (V + 2) 4 2 = some b ∧ jlt z 1000 (V + 2) 4 3 = some i := fun z l f n h => ⟨h.2.2.2 0 (by omega) (by omega), h.2.2.2 1 (by omega) (by omega), h.2.2.2 2 (by omega) (by omega), h.2.2.2 3 (by omega) (by omega)⟩
  clear hpt
  rcases cases17 with rfl | rfl | rfl | rfl | rfl | rfl | rfl | rfl | rfl | rfl | rfl | rfl | rfl | rfl | rfl | rfl | rfl
  · exact ⟨u, n, by simp only [em_X38_operands, dm_X38_operands, eu_X38_operands_248, du_X38_operands_248, eu_X38_operands_243, du_X38_operands_243, eu_X38_operands_220, du_X38_operands_220, eu_X38_operands_216, du_X38_operands_216, eu_X38_operands_193, du_X38_operands_193, eu_X38_operands_188, du_X38_operands_188, eu_X38_operands_176, du_X38_operands_176, eu_X38_operands_166, du_X38_operands_166, eu_X38_operands_156, du_X38_operands_156, eu_X38_operands_151, du_X38_operands_151, eu_X38_operands_139, du_X38_operands_139, eu_X38_operands_129, du_X38_operands_129, eu_X38_operands_102, du_X38_operands_102, eu_X38_operands_92, du_X38_operands_92, eu_X38_operands_65, du_X38_operands_65, eu_X38_operands_50, du_X38_operands_50, eu_X38_operands_45, du_X38_operands_45, eu_X38_operands_9, du_X38_operands_9, eq_self, and_false, false_and, and_true, true_and, if_true, if_false, reduceIte, Int.reduceEq, Int.reduceLT, Int.reduceLE, Int.reduceNeg, not_false_eq_true, Option.bind_some, jls], by omega, by rw [if_pos rfl, if_pos rfl, List.append_nil]; exact h⟩
  · obtain ⟨z0, e0, h0⟩ := h.reg (by omega) (.inl rfl) hd.1 hd.2
    obtain ⟨z1, e1, h1⟩ := h0.reg (by omega) (.inr rfl) ha.1 ha.2
    obtain ⟨z2, e2, h2⟩ := h1.reg (by omega) (.inr rfl) hb.1 hb.2
    refine ⟨z2, n + 35, by simp only [em_X38_operands, dm_X38_operands, eu_X38_operands_248, du_X38_operands_248, eu_X38_operands_243, du_X38_operands_243, eu_X38_operands_220, du_X38_operands_220, eu_X38_operands_216, du_X38_operands_216, eu_X38_operands_193, du_X38_operands_193, eu_X38_operands_188, du_X38_operands_188, eu_X38_operands_176, du_X38_operands_176, eu_X38_operands_166, du_X38_operands_166, eu_X38_operands_156, du_X38_operands_156, eu_X38_operands_151, du_X38_operands_151, eu_X38_operands_139, du_X38_operands_139, eu_X38_operands_129, du_X38_operands_129, eu_X38_operands_102, du_X38_operands_102, eu_X38_operands_92, du_X38_operands_92, eu_X38_operands_65, du_X38_operands_65, eu_X38_operands_50, du_X38_operands_50, eu_X38_operands_45, du_X38_operands_45, eu_X38_operands_9, du_X38_operands_9, eq_self, and_false, false_and, and_true, true_and, if_true, if_false, reduceIte, Int.reduceEq, Int.reduceLT, Int.reduceLE, Int.reduceNeg, not_false_eq_true, Option.bind_some, jls]; rw [(rd _ _ _ _ h).1, Option.bind_some, e0, Option.bind_some, (rd _ _ _ _ h0).2.1, Option.bind_some, e1, Option.bind_some, (rd _ _ _ _ h1).2.2.1, Option.bind_some, e2, Option.bind_some], by omega, ?_⟩
    rw [if_neg (by omega), if_neg (by omega)]
    have hh := (h2).mono (N := n + 35) (by omega)
    simp only [opL, eq_self, and_false, false_and, and_true, true_and, if_true, if_false, reduceIte, Int.reduceEq, Int.reduceLT, Int.reduceLE, Int.reduceNeg, not_false_eq_true, Option.bind_some, jls, cS_sp.1, cS_sp.2.1, cS_sp.2.2, List.append_assoc, sep_0, sep_1, List.singleton_append, List.cons_append, List.nil_append] at hh ⊢
    exact hh
  · obtain ⟨z0, e0, h0⟩ := h.reg (by omega) (.inl rfl) hd.1 hd.2
    obtain ⟨z1, e1, h1⟩ := h0.reg (by omega) (.inr rfl) ha.1 ha.2
    obtain ⟨z2, e2, h2⟩ := h1.num (by omega) (.inr rfl) hi
    refine ⟨z2, n + 35, by simp only [em_X38_operands, dm_X38_operands, eu_X38_operands_248, du_X38_operands_248, eu_X38_operands_243, du_X38_operands_243, eu_X38_operands_220, du_X38_operands_220, eu_X38_operands_216, du_X38_operands_216, eu_X38_operands_193, du_X38_operands_193, eu_X38_operands_188, du_X38_operands_188, eu_X38_operands_176, du_X38_operands_176, eu_X38_operands_166, du_X38_operands_166, eu_X38_operands_156, du_X38_operands_156, eu_X38_operands_151, du_X38_operands_151, eu_X38_operands_139, du_X38_operands_139, eu_X38_operands_129, du_X38_operands_129, eu_X38_operands_102, du_X38_operands_102, eu_X38_operands_92, du_X38_operands_92, eu_X38_operands_65, du_X38_operands_65, eu_X38_operands_50, du_X38_operands_50, eu_X38_operands_45, du_X38_operands_45, eu_X38_operands_9, du_X38_operands_9, eq_self, and_false, false_and, and_true, true_and, if_true, if_false, reduceIte, Int.reduceEq, Int.reduceLT, Int.reduceLE, Int.reduceNeg, not_false_eq_true, Option.bind_some, jls]; rw [(rd _ _ _ _ h).1, Option.bind_some, e0, Option.bind_some, (rd _ _ _ _ h0).2.1, Option.bind_some, e1, Option.bind_some, e2, Option.bind_some], by omega, ?_⟩
    rw [if_neg (by omega), if_neg (by omega)]
    have hh := (h2).mono (N := n + 35) (by omega)
    simp only [opL, eq_self, and_false, false_and, and_true, true_and, if_true, if_false, reduceIte, Int.reduceEq, Int.reduceLT, Int.reduceLE, Int.reduceNeg, not_false_eq_true, Option.bind_some, jls, cS_sp.1, cS_sp.2.1, cS_sp.2.2, List.append_assoc, sep_0, sep_1, List.singleton_append, List.cons_append, List.nil_append] at hh ⊢
    exact hh
  · obtain ⟨z0, e0, h0⟩ := h.reg (by omega) (.inl rfl) hd.1 hd.2
    obtain ⟨z1, e1, h1⟩ := h0.offs (by omega) (.inr rfl) hi ha.1 ha.2
    refine ⟨z1, n + 35, by simp only [em_X38_operands, dm_X38_operands, eu_X38_operands_248, du_X38_operands_248, eu_X38_operands_243, du_X38_operands_243, eu_X38_operands_220, du_X38_operands_220, eu_X38_operands_216, du_X38_operands_216, eu_X38_operands_193, du_X38_operands_193, eu_X38_operands_188, du_X38_operands_188, eu_X38_operands_176, du_X38_operands_176, eu_X38_operands_166, du_X38_operands_166, eu_X38_operands_156, du_X38_operands_156, eu_X38_operands_151, du_X38_operands_151, eu_X38_operands_139, du_X38_operands_139, eu_X38_operands_129, du_X38_operands_129, eu_X38_operands_102, du_X38_operands_102, eu_X38_operands_92, du_X38_operands_92, eu_X38_operands_65, du_X38_operands_65, eu_X38_operands_50, du_X38_operands_50, eu_X38_operands_45, du_X38_operands_45, eu_X38_operands_9, du_X38_operands_9, eq_self, and_false, false_and, and_true, true_and, if_true, if_false, reduceIte, Int.reduceEq, Int.reduceLT, Int.reduceLE, Int.reduceNeg, not_false_eq_true, Option.bind_some, jls]; rw [(rd _ _ _ _ h).1, Option.bind_some, e0, Option.bind_some, (rd _ _ _ _ h0).2.1, Option.bind_some, e1, Option.bind_some], by omega, ?_⟩
    rw [if_neg (by omega), if_neg (by omega)]
    have hh := (h1).mono (N := n + 35) (by omega)
    simp only [opL, eq_self, and_false, false_and, and_true, true_and, if_true, if_false, reduceIte, Int.reduceEq, Int.reduceLT, Int.reduceLE, Int.reduceNeg, not_false_eq_true, Option.bind_some, jls, cS_sp.1, cS_sp.2.1, cS_sp.2.2, List.append_assoc, sep_0, sep_1, List.singleton_append, List.cons_append, List.nil_append] at hh ⊢
    exact hh
  · obtain ⟨z0, e0, h0⟩ := h.reg (by omega) (.inl rfl) hb.1 hb.2
    obtain ⟨z1, e1, h1⟩ := h0.offs (by omega) (.inr rfl) hi ha.1 ha.2
    refine ⟨z1, n + 35, by simp only [em_X38_operands, dm_X38_operands, eu_X38_operands_248, du_X38_operands_248, eu_X38_operands_243, du_X38_operands_243, eu_X38_operands_220, du_X38_operands_220, eu_X38_operands_216, du_X38_operands_216, eu_X38_operands_193, du_X38_operands_193, eu_X38_operands_188, du_X38_operands_188, eu_X38_operands_176, du_X38_operands_176, eu_X38_operands_166, du_X38_operands_166, eu_X38_operands_156, du_X38_operands_156, eu_X38_operands_151, du_X38_operands_151, eu_X38_operands_139, du_X38_operands_139, eu_X38_operands_129, du_X38_operands_129, eu_X38_operands_102, du_X38_operands_102, eu_X38_operands_92, du_X38_operands_92, eu_X38_operands_65, du_X38_operands_65, eu_X38_operands_50, du_X38_operands_50, eu_X38_operands_45, du_X38_operands_45, eu_X38_operands_9, du_X38_operands_9, eq_self, and_false, false_and, and_true, true_and, if_true, if_false, reduceIte, Int.reduceEq, Int.reduceLT, Int.reduceLE, Int.reduceNeg, not_false_eq_true, Option.bind_some, jls]; rw [(rd _ _ _ _ h).2.2.1, Option.bind_some, e0, Option.bind_some, (rd _ _ _ _ h0).2.1, Option.bind_some, e1, Option.bind_some], by omega, ?_⟩
    rw [if_neg (by omega), if_neg (by omega)]
    have hh := (h1).mono (N := n + 35) (by omega)
    simp only [opL, eq_self, and_false, false_and, and_true, true_and, if_true, if_false, reduceIte, Int.reduceEq, Int.reduceLT, Int.reduceLE, Int.reduceNeg, not_false_eq_true, Option.bind_some, jls, cS_sp.1, cS_sp.2.1, cS_sp.2.2, List.append_assoc, sep_0, sep_1, List.singleton_append, List.cons_append, List.nil_append] at hh ⊢
    exact hh
  · obtain ⟨z0, e0, h0⟩ := h.reg (by omega) (.inl rfl) ha.1 ha.2
    obtain ⟨z1, e1, h1⟩ := h0.reg (by omega) (.inr rfl) hb.1 hb.2
    obtain ⟨z2, e2, h2⟩ := h1.place (pl := pl) (by omega) (.inr rfl)
    refine ⟨z2, n + 35, by simp only [em_X38_operands, dm_X38_operands, eu_X38_operands_248, du_X38_operands_248, eu_X38_operands_243, du_X38_operands_243, eu_X38_operands_220, du_X38_operands_220, eu_X38_operands_216, du_X38_operands_216, eu_X38_operands_193, du_X38_operands_193, eu_X38_operands_188, du_X38_operands_188, eu_X38_operands_176, du_X38_operands_176, eu_X38_operands_166, du_X38_operands_166, eu_X38_operands_156, du_X38_operands_156, eu_X38_operands_151, du_X38_operands_151, eu_X38_operands_139, du_X38_operands_139, eu_X38_operands_129, du_X38_operands_129, eu_X38_operands_102, du_X38_operands_102, eu_X38_operands_92, du_X38_operands_92, eu_X38_operands_65, du_X38_operands_65, eu_X38_operands_50, du_X38_operands_50, eu_X38_operands_45, du_X38_operands_45, eu_X38_operands_9, du_X38_operands_9, eq_self, and_false, false_and, and_true, true_and, if_true, if_false, reduceIte, Int.reduceEq, Int.reduceLT, Int.reduceLE, Int.reduceNeg, not_false_eq_true, Option.bind_some, jls]; rw [(rd _ _ _ _ h).2.1, Option.bind_some, e0, Option.bind_some, (rd _ _ _ _ h0).2.2.1, Option.bind_some, e1, Option.bind_some, e2, Option.bind_some], by omega, ?_⟩
    rw [if_neg (by omega), if_neg (by omega)]
    have hh := (h2).mono (N := n + 35) (by omega)
    simp only [opL, eq_self, and_false, false_and, and_true, true_and, if_true, if_false, reduceIte, Int.reduceEq, Int.reduceLT, Int.reduceLE, Int.reduceNeg, not_false_eq_true, Option.bind_some, jls, cS_sp.1, cS_sp.2.1, cS_sp.2.2, List.append_assoc, sep_0, sep_1, List.singleton_append, List.cons_append, List.nil_append] at hh ⊢
    exact hh
  · obtain ⟨z0, e0, h0⟩ := h.reg (by omega) (.inl rfl) hd.1 hd.2
    obtain ⟨z1a, e1a, h1a⟩ := h0.ahead (by omega) (.inr rfl)
    have hq := h1a.2.2.1
    obtain ⟨z1, e1, g1, g2⟩ := t_sayHex (w := i) h1a.1 (by omega)
    have h1 := h1a.of (N := n + 20) g1 g2 (by rw [List.length_append]; have := (hxL_len i).2; omega)
    refine ⟨z1, n + 35, by simp only [em_X38_operands, dm_X38_operands, eu_X38_operands_248, du_X38_operands_248, eu_X38_operands_243, du_X38_operands_243, eu_X38_operands_220, du_X38_operands_220, eu_X38_operands_216, du_X38_operands_216, eu_X38_operands_193, du_X38_operands_193, eu_X38_operands_188, du_X38_operands_188, eu_X38_operands_176, du_X38_operands_176, eu_X38_operands_166, du_X38_operands_166, eu_X38_operands_156, du_X38_operands_156, eu_X38_operands_151, du_X38_operands_151, eu_X38_operands_139, du_X38_operands_139, eu_X38_operands_129, du_X38_operands_129, eu_X38_operands_102, du_X38_operands_102, eu_X38_operands_92, du_X38_operands_92, eu_X38_operands_65, du_X38_operands_65, eu_X38_operands_50, du_X38_operands_50, eu_X38_operands_45, du_X38_operands_45, eu_X38_operands_9, du_X38_operands_9, eq_self, and_false, false_and, and_true, true_and, if_true, if_false, reduceIte, Int.reduceEq, Int.reduceLT, Int.reduceLE, Int.reduceNeg, not_false_eq_true, Option.bind_some, jls]; rw [(rd _ _ _ _ h).1, Option.bind_some, e0, Option.bind_some, e1a, Option.bind_some, (rd _ _ _ _ h1a).2.2.2, Option.bind_some, e1, Option.bind_some], by omega, ?_⟩
    rw [if_neg (by omega), if_neg (by omega)]
    have hh := (h1).mono (N := n + 35) (by omega)
    simp only [opL, eq_self, and_false, false_and, and_true, true_and, if_true, if_false, reduceIte, Int.reduceEq, Int.reduceLT, Int.reduceLE, Int.reduceNeg, not_false_eq_true, Option.bind_some, jls, cS_sp.1, cS_sp.2.1, cS_sp.2.2, List.append_assoc, sep_0, sep_1, List.singleton_append, List.cons_append, List.nil_append] at hh ⊢
    exact hh
  · obtain ⟨z0, e0, h0⟩ := h.reg (by omega) (.inl rfl) hd.1 hd.2
    obtain ⟨z1, e1, h1⟩ := h0.place (pl := pl) (by omega) (.inr rfl)
    refine ⟨z1, n + 35, by simp only [em_X38_operands, dm_X38_operands, eu_X38_operands_248, du_X38_operands_248, eu_X38_operands_243, du_X38_operands_243, eu_X38_operands_220, du_X38_operands_220, eu_X38_operands_216, du_X38_operands_216, eu_X38_operands_193, du_X38_operands_193, eu_X38_operands_188, du_X38_operands_188, eu_X38_operands_176, du_X38_operands_176, eu_X38_operands_166, du_X38_operands_166, eu_X38_operands_156, du_X38_operands_156, eu_X38_operands_151, du_X38_operands_151, eu_X38_operands_139, du_X38_operands_139, eu_X38_operands_129, du_X38_operands_129, eu_X38_operands_102, du_X38_operands_102, eu_X38_operands_92, du_X38_operands_92, eu_X38_operands_65, du_X38_operands_65, eu_X38_operands_50, du_X38_operands_50, eu_X38_operands_45, du_X38_operands_45, eu_X38_operands_9, du_X38_operands_9, eq_self, and_false, false_and, and_true, true_and, if_true, if_false, reduceIte, Int.reduceEq, Int.reduceLT, Int.reduceLE, Int.reduceNeg, not_false_eq_true, Option.bind_some, jls]; rw [(rd _ _ _ _ h).1, Option.bind_some, e0, Option.bind_some, e1, Option.bind_some], by omega, ?_⟩
    rw [if_neg (by omega), if_neg (by omega)]
    have hh := (h1).mono (N := n + 35) (by omega)
    simp only [opL, eq_self, and_false, false_and, and_true, true_and, if_true, if_false, reduceIte, Int.reduceEq, Int.reduceLT, Int.reduceLE, Int.reduceNeg, not_false_eq_true, Option.bind_some, jls, cS_sp.1, cS_sp.2.1, cS_sp.2.2, List.append_assoc, sep_0, sep_1, List.singleton_append, List.cons_append, List.nil_append] at hh ⊢
    exact hh
  · obtain ⟨z0, e0, h0⟩ := h.place (pl := pl) (by omega) (.inl rfl)
    refine ⟨z0, n + 35, by simp only [em_X38_operands, dm_X38_operands, eu_X38_operands_248, du_X38_operands_248, eu_X38_operands_243, du_X38_operands_243, eu_X38_operands_220, du_X38_operands_220, eu_X38_operands_216, du_X38_operands_216, eu_X38_operands_193, du_X38_operands_193, eu_X38_operands_188, du_X38_operands_188, eu_X38_operands_176, du_X38_operands_176, eu_X38_operands_166, du_X38_operands_166, eu_X38_operands_156, du_X38_operands_156, eu_X38_operands_151, du_X38_operands_151, eu_X38_operands_139, du_X38_operands_139, eu_X38_operands_129, du_X38_operands_129, eu_X38_operands_102, du_X38_operands_102, eu_X38_operands_92, du_X38_operands_92, eu_X38_operands_65, du_X38_operands_65, eu_X38_operands_50, du_X38_operands_50, eu_X38_operands_45, du_X38_operands_45, eu_X38_operands_9, du_X38_operands_9, eq_self, and_false, false_and, and_true, true_and, if_true, if_false, reduceIte, Int.reduceEq, Int.reduceLT, Int.reduceLE, Int.reduceNeg, not_false_eq_true, Option.bind_some, jls]; rw [e0, Option.bind_some], by omega, ?_⟩
    rw [if_neg (by omega), if_neg (by omega)]
    have hh := (h0).mono (N := n + 35) (by omega)
    simp only [opL, eq_self, and_false, false_and, and_true, true_and, if_true, if_false, reduceIte, Int.reduceEq, Int.reduceLT, Int.reduceLE, Int.reduceNeg, not_false_eq_true, Option.bind_some, jls, cS_sp.1, cS_sp.2.1, cS_sp.2.2, List.append_assoc, sep_0, sep_1, List.singleton_append, List.cons_append, List.nil_append] at hh ⊢
    exact hh
  · obtain ⟨z0, e0, h0⟩ := h.reg (by omega) (.inl rfl) ha.1 ha.2
    obtain ⟨z1, e1, h1⟩ := h0.place (pl := pl) (by omega) (.inr rfl)
    refine ⟨z1, n + 35, by simp only [em_X38_operands, dm_X38_operands, eu_X38_operands_248, du_X38_operands_248, eu_X38_operands_243, du_X38_operands_243, eu_X38_operands_220, du_X38_operands_220, eu_X38_operands_216, du_X38_operands_216, eu_X38_operands_193, du_X38_operands_193, eu_X38_operands_188, du_X38_operands_188, eu_X38_operands_176, du_X38_operands_176, eu_X38_operands_166, du_X38_operands_166, eu_X38_operands_156, du_X38_operands_156, eu_X38_operands_151, du_X38_operands_151, eu_X38_operands_139, du_X38_operands_139, eu_X38_operands_129, du_X38_operands_129, eu_X38_operands_102, du_X38_operands_102, eu_X38_operands_92, du_X38_operands_92, eu_X38_operands_65, du_X38_operands_65, eu_X38_operands_50, du_X38_operands_50, eu_X38_operands_45, du_X38_operands_45, eu_X38_operands_9, du_X38_operands_9, eq_self, and_false, false_and, and_true, true_and, if_true, if_false, reduceIte, Int.reduceEq, Int.reduceLT, Int.reduceLE, Int.reduceNeg, not_false_eq_true, Option.bind_some, jls]; rw [(rd _ _ _ _ h).2.1, Option.bind_some, e0, Option.bind_some, e1, Option.bind_some], by omega, ?_⟩
    rw [if_neg (by omega), if_neg (by omega)]
    have hh := (h1).mono (N := n + 35) (by omega)
    simp only [opL, eq_self, and_false, false_and, and_true, true_and, if_true, if_false, reduceIte, Int.reduceEq, Int.reduceLT, Int.reduceLE, Int.reduceNeg, not_false_eq_true, Option.bind_some, jls, cS_sp.1, cS_sp.2.1, cS_sp.2.2, List.append_assoc, sep_0, sep_1, List.singleton_append, List.cons_append, List.nil_append] at hh ⊢
    exact hh
  · obtain ⟨z0, e0, h0⟩ := h.reg (by omega) (.inl rfl) hd.1 hd.2
    obtain ⟨z1, e1, h1⟩ := h0.reg (by omega) (.inr rfl) hb.1 hb.2
    refine ⟨z1, n + 35, by simp only [em_X38_operands, dm_X38_operands, eu_X38_operands_248, du_X38_operands_248, eu_X38_operands_243, du_X38_operands_243, eu_X38_operands_220, du_X38_operands_220, eu_X38_operands_216, du_X38_operands_216, eu_X38_operands_193, du_X38_operands_193, eu_X38_operands_188, du_X38_operands_188, eu_X38_operands_176, du_X38_operands_176, eu_X38_operands_166, du_X38_operands_166, eu_X38_operands_156, du_X38_operands_156, eu_X38_operands_151, du_X38_operands_151, eu_X38_operands_139, du_X38_operands_139, eu_X38_operands_129, du_X38_operands_129, eu_X38_operands_102, du_X38_operands_102, eu_X38_operands_92, du_X38_operands_92, eu_X38_operands_65, du_X38_operands_65, eu_X38_operands_50, du_X38_operands_50, eu_X38_operands_45, du_X38_operands_45, eu_X38_operands_9, du_X38_operands_9, eq_self, and_false, false_and, and_true, true_and, if_true, if_false, reduceIte, Int.reduceEq, Int.reduceLT, Int.reduceLE, Int.reduceNeg, not_false_eq_true, Option.bind_some, jls]; rw [(rd _ _ _ _ h).1, Option.bind_some, e0, Option.bind_some, (rd _ _ _ _ h0).2.2.1, Option.bind_some, e1, Option.bind_some], by omega, ?_⟩
    rw [if_neg (by omega), if_neg (by omega)]
    have hh := (h1).mono (N := n + 35) (by omega)
    simp only [opL, eq_self, and_false, false_and, and_true, true_and, if_true, if_false, reduceIte, Int.reduceEq, Int.reduceLT, Int.reduceLE, Int.reduceNeg, not_false_eq_true, Option.bind_some, jls, cS_sp.1, cS_sp.2.1, cS_sp.2.2, List.append_assoc, sep_0, sep_1, List.singleton_append, List.cons_append, List.nil_append] at hh ⊢
    exact hh
  · obtain ⟨z0, e0, h0⟩ := h.reg (by omega) (.inl rfl) ha.1 ha.2
    refine ⟨z0, n + 35, by simp only [em_X38_operands, dm_X38_operands, eu_X38_operands_248, du_X38_operands_248, eu_X38_operands_243, du_X38_operands_243, eu_X38_operands_220, du_X38_operands_220, eu_X38_operands_216, du_X38_operands_216, eu_X38_operands_193, du_X38_operands_193, eu_X38_operands_188, du_X38_operands_188, eu_X38_operands_176, du_X38_operands_176, eu_X38_operands_166, du_X38_operands_166, eu_X38_operands_156, du_X38_operands_156, eu_X38_operands_151, du_X38_operands_151, eu_X38_operands_139, du_X38_operands_139, eu_X38_operands_129, du_X38_operands_129, eu_X38_operands_102, du_X38_operands_102, eu_X38_operands_92, du_X38_operands_92, eu_X38_operands_65, du_X38_operands_65, eu_X38_operands_50, du_X38_operands_50, eu_X38_operands_45, du_X38_operands_45, eu_X38_operands_9, du_X38_operands_9, eq_self, and_false, false_and, and_true, true_and, if_true, if_false, reduceIte, Int.reduceEq, Int.reduceLT, Int.reduceLE, Int.reduceNeg, not_false_eq_true, Option.bind_some, jls]; rw [(rd _ _ _ _ h).2.1, Option.bind_some, e0, Option.bind_some], by omega, ?_⟩
    rw [if_neg (by omega), if_neg (by omega)]
    have hh := (h0).mono (N := n + 35) (by omega)
    simp only [opL, eq_self, and_false, false_and, and_true, true_and, if_true, if_false, reduceIte, Int.reduceEq, Int.reduceLT, Int.reduceLE, Int.reduceNeg, not_false_eq_true, Option.bind_some, jls, cS_sp.1, cS_sp.2.1, cS_sp.2.2, List.append_assoc, sep_0, sep_1, List.singleton_append, List.cons_append, List.nil_append] at hh ⊢
    exact hh
  · obtain ⟨z0, e0, h0⟩ := h.reg (by omega) (.inl rfl) hd.1 hd.2
    obtain ⟨z1, e1, h1⟩ := h0.num (by omega) (.inr rfl) hi
    refine ⟨z1, n + 35, by simp only [em_X38_operands, dm_X38_operands, eu_X38_operands_248, du_X38_operands_248, eu_X38_operands_243, du_X38_operands_243, eu_X38_operands_220, du_X38_operands_220, eu_X38_operands_216, du_X38_operands_216, eu_X38_operands_193, du_X38_operands_193, eu_X38_operands_188, du_X38_operands_188, eu_X38_operands_176, du_X38_operands_176, eu_X38_operands_166, du_X38_operands_166, eu_X38_operands_156, du_X38_operands_156, eu_X38_operands_151, du_X38_operands_151, eu_X38_operands_139, du_X38_operands_139, eu_X38_operands_129, du_X38_operands_129, eu_X38_operands_102, du_X38_operands_102, eu_X38_operands_92, du_X38_operands_92, eu_X38_operands_65, du_X38_operands_65, eu_X38_operands_50, du_X38_operands_50, eu_X38_operands_45, du_X38_operands_45, eu_X38_operands_9, du_X38_operands_9, eq_self, and_false, false_and, and_true, true_and, if_true, if_false, reduceIte, Int.reduceEq, Int.reduceLT, Int.reduceLE, Int.reduceNeg, not_false_eq_true, Option.bind_some, jls]; rw [(rd _ _ _ _ h).1, Option.bind_some, e0, Option.bind_some, e1, Option.bind_some], by omega, ?_⟩
    rw [if_neg (by omega), if_neg (by omega)]
    have hh := (h1).mono (N := n + 35) (by omega)
    simp only [opL, eq_self, and_false, false_and, and_true, true_and, if_true, if_false, reduceIte, Int.reduceEq, Int.reduceLT, Int.reduceLE, Int.reduceNeg, not_false_eq_true, Option.bind_some, jls, cS_sp.1, cS_sp.2.1, cS_sp.2.2, List.append_assoc, sep_0, sep_1, List.singleton_append, List.cons_append, List.nil_append] at hh ⊢
    exact hh
  · obtain ⟨z0, e0, h0⟩ := h.reg (by omega) (.inl rfl) hd.1 hd.2
    obtain ⟨z1, e1, h1⟩ := h0.offs (r := 2) (by omega) (.inr rfl) hi (by omega) (by omega)
    refine ⟨z1, n + 35, by simp only [em_X38_operands, dm_X38_operands, eu_X38_operands_248, du_X38_operands_248, eu_X38_operands_243, du_X38_operands_243, eu_X38_operands_220, du_X38_operands_220, eu_X38_operands_216, du_X38_operands_216, eu_X38_operands_193, du_X38_operands_193, eu_X38_operands_188, du_X38_operands_188, eu_X38_operands_176, du_X38_operands_176, eu_X38_operands_166, du_X38_operands_166, eu_X38_operands_156, du_X38_operands_156, eu_X38_operands_151, du_X38_operands_151, eu_X38_operands_139, du_X38_operands_139, eu_X38_operands_129, du_X38_operands_129, eu_X38_operands_102, du_X38_operands_102, eu_X38_operands_92, du_X38_operands_92, eu_X38_operands_65, du_X38_operands_65, eu_X38_operands_50, du_X38_operands_50, eu_X38_operands_45, du_X38_operands_45, eu_X38_operands_9, du_X38_operands_9, eq_self, and_false, false_and, and_true, true_and, if_true, if_false, reduceIte, Int.reduceEq, Int.reduceLT, Int.reduceLE, Int.reduceNeg, not_false_eq_true, Option.bind_some, jls]; rw [(rd _ _ _ _ h).1, Option.bind_some, e0, Option.bind_some, e1, Option.bind_some], by omega, ?_⟩
    rw [if_neg (by omega), if_neg (by omega)]
    have hh := (h1).mono (N := n + 35) (by omega)
    simp only [opL, eq_self, and_false, false_and, and_true, true_and, if_true, if_false, reduceIte, Int.reduceEq, Int.reduceLT, Int.reduceLE, Int.reduceNeg, not_false_eq_true, Option.bind_some, jls, cS_sp.1, cS_sp.2.1, cS_sp.2.2, List.append_assoc, sep_0, sep_1, List.singleton_append, List.cons_append, List.nil_append] at hh ⊢
    exact hh
  · obtain ⟨z0, e0, h0⟩ := h.reg (by omega) (.inl rfl) hb.1 hb.2
    obtain ⟨z1, e1, h1⟩ := h0.offs (r := 2) (by omega) (.inr rfl) hi (by omega) (by omega)
    refine ⟨z1, n + 35, by simp only [em_X38_operands, dm_X38_operands, eu_X38_operands_248, du_X38_operands_248, eu_X38_operands_243, du_X38_operands_243, eu_X38_operands_220, du_X38_operands_220, eu_X38_operands_216, du_X38_operands_216, eu_X38_operands_193, du_X38_operands_193, eu_X38_operands_188, du_X38_operands_188, eu_X38_operands_176, du_X38_operands_176, eu_X38_operands_166, du_X38_operands_166, eu_X38_operands_156, du_X38_operands_156, eu_X38_operands_151, du_X38_operands_151, eu_X38_operands_139, du_X38_operands_139, eu_X38_operands_129, du_X38_operands_129, eu_X38_operands_102, du_X38_operands_102, eu_X38_operands_92, du_X38_operands_92, eu_X38_operands_65, du_X38_operands_65, eu_X38_operands_50, du_X38_operands_50, eu_X38_operands_45, du_X38_operands_45, eu_X38_operands_9, du_X38_operands_9, eq_self, and_false, false_and, and_true, true_and, if_true, if_false, reduceIte, Int.reduceEq, Int.reduceLT, Int.reduceLE, Int.reduceNeg, not_false_eq_true, Option.bind_some, jls]; rw [(rd _ _ _ _ h).2.2.1, Option.bind_some, e0, Option.bind_some, e1, Option.bind_some], by omega, ?_⟩
    rw [if_neg (by omega), if_neg (by omega)]
    have hh := (h1).mono (N := n + 35) (by omega)
    simp only [opL, eq_self, and_false, false_and, and_true, true_and, if_true, if_false, reduceIte, Int.reduceEq, Int.reduceLT, Int.reduceLE, Int.reduceNeg, not_false_eq_true, Option.bind_some, jls, cS_sp.1, cS_sp.2.1, cS_sp.2.2, List.append_assoc, sep_0, sep_1, List.singleton_append, List.cons_append, List.nil_append] at hh ⊢
    exact hh
  · obtain ⟨z0, e0, h0⟩ := h.reg (by omega) (.inl rfl) hd.1 hd.2
    obtain ⟨z1, e1, h1⟩ := h0.reg (r := 2) (by omega) (.inr rfl) (by omega) (by omega)
    obtain ⟨z2, e2, h2⟩ := h1.num (by omega) (.inr rfl) hi
    refine ⟨z2, n + 35, by simp only [em_X38_operands, dm_X38_operands, eu_X38_operands_248, du_X38_operands_248, eu_X38_operands_243, du_X38_operands_243, eu_X38_operands_220, du_X38_operands_220, eu_X38_operands_216, du_X38_operands_216, eu_X38_operands_193, du_X38_operands_193, eu_X38_operands_188, du_X38_operands_188, eu_X38_operands_176, du_X38_operands_176, eu_X38_operands_166, du_X38_operands_166, eu_X38_operands_156, du_X38_operands_156, eu_X38_operands_151, du_X38_operands_151, eu_X38_operands_139, du_X38_operands_139, eu_X38_operands_129, du_X38_operands_129, eu_X38_operands_102, du_X38_operands_102, eu_X38_operands_92, du_X38_operands_92, eu_X38_operands_65, du_X38_operands_65, eu_X38_operands_50, du_X38_operands_50, eu_X38_operands_45, du_X38_operands_45, eu_X38_operands_9, du_X38_operands_9, eq_self, and_false, false_and, and_true, true_and, if_true, if_false, reduceIte, Int.reduceEq, Int.reduceLT, Int.reduceLE, Int.reduceNeg, not_false_eq_true, Option.bind_some, jls]; rw [(rd _ _ _ _ h).1, Option.bind_some, e0, Option.bind_some, e1, Option.bind_some, e2, Option.bind_some], by omega, ?_⟩
    rw [if_neg (by omega), if_neg (by omega)]
    have hh := (h2).mono (N := n + 35) (by omega)
    simp only [opL, eq_self, and_false, false_and, and_true, true_and, if_true, if_false, reduceIte, Int.reduceEq, Int.reduceLT, Int.reduceLE, Int.reduceNeg, not_false_eq_true, Option.bind_some, jls, cS_sp.1, cS_sp.2.1, cS_sp.2.2, List.append_assoc, sep_0, sep_1, List.singleton_append, List.cons_append, List.nil_append] at hh ⊢
    exact hh
  · obtain ⟨z0, e0, h0⟩ := h.reg (r := 2) (by omega) (.inl rfl) (by omega) (by omega)
    obtain ⟨z1, e1, h1⟩ := h0.num (by omega) (.inr rfl) hi
    refine ⟨z1, n + 35, by simp only [em_X38_operands, dm_X38_operands, eu_X38_operands_248, du_X38_operands_248, eu_X38_operands_243, du_X38_operands_243, eu_X38_operands_220, du_X38_operands_220, eu_X38_operands_216, du_X38_operands_216, eu_X38_operands_193, du_X38_operands_193, eu_X38_operands_188, du_X38_operands_188, eu_X38_operands_176, du_X38_operands_176, eu_X38_operands_166, du_X38_operands_166, eu_X38_operands_156, du_X38_operands_156, eu_X38_operands_151, du_X38_operands_151, eu_X38_operands_139, du_X38_operands_139, eu_X38_operands_129, du_X38_operands_129, eu_X38_operands_102, du_X38_operands_102, eu_X38_operands_92, du_X38_operands_92, eu_X38_operands_65, du_X38_operands_65, eu_X38_operands_50, du_X38_operands_50, eu_X38_operands_45, du_X38_operands_45, eu_X38_operands_9, du_X38_operands_9, eq_self, and_false, false_and, and_true, true_and, if_true, if_false, reduceIte, Int.reduceEq, Int.reduceLT, Int.reduceLE, Int.reduceNeg, not_false_eq_true, Option.bind_some, jls]; rw [e0, Option.bind_some, e1, Option.bind_some], by omega, ?_⟩
    rw [if_neg (by omega), if_neg (by omega)]
    have hh := (h1).mono (N := n + 35) (by omega)
    simp only [opL, eq_self, and_false, false_and, and_true, true_and, if_true, if_false, reduceIte, Int.reduceEq, Int.reduceLT, Int.reduceLE, Int.reduceNeg, not_false_eq_true, Option.bind_some, jls, cS_sp.1, cS_sp.2.1, cS_sp.2.2, List.append_assoc, sep_0, sep_1, List.singleton_append, List.cons_append, List.nil_append] at hh ⊢
    exact hh
end jOpers
