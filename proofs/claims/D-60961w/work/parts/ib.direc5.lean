/-! directives: strings *-/
section jDirec5
variable {s t u w t' : jS} {v A H b lo W k c a hh x y f d n o j e : Int} {NL : List (List Int)} {I : pI} {OL : List pvO} {SL : List pvS} {z : pvS} {zo : pvO} {Q Q' : jS → jS → Int → Prop}
/-- the operands from j on are of a sort -/
def alS (v : Int) (OL : List pvO) (z : pvS) (j : Int) : Prop := ∀ i, j ≤ i → i < z.2.2.2.1 → opSr v (tO OL (z.2.2.1 + i))
theorem alS.end (h : z.2.2.2.1 ≤ j) : alS v OL z j := fun i i0 i1 => by omega
theorem alS.st (h1 : j < z.2.2.2.1) : alS v OL z j ↔ opSr v (tO OL (z.2.2.1 + j)) ∧ alS v OL z (j + 1) := by
  constructor
  · exact fun h => ⟨h j (Int.le_refl _) h1, fun i i0 i1 => h i (by omega) i1⟩
  · rintro ⟨h2, h3⟩ i i0 i1
    by_cases c : i = j
    · subst c; exact h2
    · exact h3 i (by omega) i1
theorem c_allL (h : AG s t A H b lo NL I OL SL k z) (hv : v = 0 ∨ v = 3) : ∀ (m : Nat) (j : Int), 0 ≤ j → j + m = z.2.2.2.1 → (alS v OL z j → u_X33_all_15 s A v 1 j = some 1) ∧ (¬ alS v OL z j → u_X33_all_15 s A v 1 j = some 0)
  | 0, j, j0, hj => by
    refine ⟨fun _ => ?_, fun q => absurd (alS.end (by omega)) q⟩
    rw [eu_X33_all_15]; unfold du_X33_all_15
    refine jlpR_r (r := some 1) ?_
    show b_X33_all_15 s A v 1 j = _
    unfold b_X33_all_15
    rw [h.2.1.2.2.1, if_neg (by omega), Wz_1]
  | m + 1, j, j0, hj => by
    have q0 : u_X33_all_15 s A v 0 (j + 1) = some 0 := by
      rw [eu_X33_all_15]; unfold du_X33_all_15
      refine jlpR_r (r := some 0) ?_
      show b_X33_all_15 s A v 0 (j + 1) = _
      unfold b_X33_all_15
      rw [Wz_0]
      by_cases c : j + 1 < jf s 37 A 35
      · rw [if_pos c, if_pos rfl]
      · rw [if_neg c]
    obtain ⟨o1, o2, o3, og, o5⟩ := h.1.op j0 (by omega : j < z.2.2.2.1)
    have st00 := h.1.st0
    have bb : jc4 b_X33_all_15 [A, v, 1, j] s = some (.inl [A, v, if opSr v (tO OL (z.2.2.1 + j)) then 1 else 0, j + 1]) := by
      show b_X33_all_15 s A v 1 j = _
      unfold b_X33_all_15
      rw [h.2.1.2.2.1, if_pos (by omega), if_neg n10]
      rcases hv with rfl | rfl
      · rw [if_neg (by decide), c_isX h j0 (by omega), Option.bind_some, eu_X33_all_63]; unfold du_X33_all_63
        rw [W32_in (by omega) (by omega)]
      · rw [if_pos rfl, h.cop j0 (by omega) (by decide) (by decide), Option.bind_some, eu_X33_all_63]; unfold du_X33_all_63
        rw [W32_in (by omega) (by omega)]
        show (if (tO OL (z.2.2.1 + j)).1 = 3 then _ else _) = _
        by_cases c3 : (tO OL (z.2.2.1 + j)).1 = 3
        · rw [if_pos c3, if1 (⟨c3, og.2.2.2.2.2.1 (.inr c3)⟩ : opSr 3 (tO OL (z.2.2.1 + j)))]
        · rw [if_neg c3, if0 (fun e : opSr 3 (tO OL (z.2.2.1 + j)) => c3 e.1)]
    have st := alS.st (v := v) (OL := OL) (z := z) (by omega : j < z.2.2.2.1)
    obtain ⟨i1, i2⟩ := c_allL h hv m (j + 1) (by omega) (by omega)
    rw [eu_X33_all_15] at i1 i2 q0 ⊢; unfold du_X33_all_15 at i1 i2 q0 ⊢
    rw [jlpR_l bb]
    by_cases c : opSr v (tO OL (z.2.2.1 + j))
    · rw [if1 c]
      exact ⟨fun q => i1 (st.mp q).2, fun q => i2 fun e => q (st.mpr ⟨c, e⟩)⟩
    · rw [if0 c]
      exact ⟨fun q => absurd (st.mp q).1 c, fun _ => q0⟩
theorem c_all2 (h : AG s t A H b lo NL I OL SL k z) (hv : v = 0 ∨ v = 3) : (0 < z.2.2.2.1 ∧ alS v OL z 0 → m_X33_all s A v = some 1) ∧ (¬ (0 < z.2.2.2.1 ∧ alS v OL z 0) → m_X33_all s A v = some 0) := by
  have n0 := h.1.stg.2.2.2.2.1
  obtain ⟨m, hm, -⟩ := nat_of n0
  obtain ⟨l1, l2⟩ := c_allL h hv m 0 (by omega) (by omega)
  rw [em_X33_all]; unfold dm_X33_all
  rw [h.2.1.2.2.1]
  by_cases c : 0 < z.2.2.2.1
  · rw [if_pos c, eu_X33_all_12]; unfold du_X33_all_12
    exact ⟨fun q => l1 q.2, fun q => l2 fun e => q ⟨c, e⟩⟩
  · rw [if_neg c, eu_X33_all_12]; unfold du_X33_all_12
    refine ⟨fun q => absurd q.1 c, fun _ => ?_⟩
    rw [eu_X33_all_15]; unfold du_X33_all_15
    refine jlpR_r (r := some 0) ?_
    show b_X33_all_15 s A v 0 0 = _
    unfold b_X33_all_15
    rw [h.2.1.2.2.1, if_neg c, Wz_0]
theorem y_strL (h : AG s t A H b lo NL I OL SL k z) : ∀ (m : Nat) (j : Int), 0 ≤ j → j + m = z.2.2.2.1 → u_X37_strings_30 t H x 0 j = u_X37_strings_63 t H x 0 ∧ (alS 3 OL z j → u_X37_strings_30 t H x 1 j = u_X37_strings_63 t H x 1) ∧ (¬ alS 3 OL z j → u_X37_strings_30 t H x 1 j = u_X37_strings_63 t H x 0)
  | 0, j, j0, hj => by
    have key : ∀ d, u_X37_strings_30 t H x d j = u_X37_strings_63 t H x d := fun d => by
      rw [eu_X37_strings_30]; unfold du_X37_strings_30
      refine jlpW_r ?_
      show b_X37_strings_30 t H x d j = _
      unfold b_X37_strings_30
      rw [h.2.1.2.2.2, if_neg (by omega)]
    exact ⟨key 0, fun _ => key 1, fun q => absurd (alS.end (by omega)) q⟩
  | m + 1, j, j0, hj => by
    obtain ⟨o1, o2, o3, og, o5⟩ := h.1.op j0 (by omega : j < z.2.2.2.1)
    have st00 := h.1.st0
    obtain ⟨i0, i1, i2⟩ := y_strL h m (j + 1) (by omega) (by omega)
    have st := alS.st (v := 3) (OL := OL) (z := z) (by omega : j < z.2.2.2.1)
    have e55 : u_X37_strings_55 t H x j = some (.inl (t, [H, x, 0, j + 1])) := by
      rw [eu_X37_strings_55]; unfold du_X37_strings_55
      rw [eu_X37_strings_56]; unfold du_X37_strings_56
      rw [W32_in (by omega) (by omega)]
    have b0 : jc4 b_X37_strings_30 [H, x, 0, j] t = some (.inl (t, [H, x, 0, j + 1])) := by
      show b_X37_strings_30 t H x 0 j = _
      unfold b_X37_strings_30
      rw [h.2.1.2.2.2, if_pos (by omega), if_pos rfl, e55]
    have b1 : jc4 b_X37_strings_30 [H, x, 1, j] t = some (.inl (t, [H, x, if opSr 3 (tO OL (z.2.2.1 + j)) then 1 else 0, j + 1])) := by
      show b_X37_strings_30 t H x 1 j = _
      unfold b_X37_strings_30
      rw [h.2.1.2.2.2, if_pos (by omega), if_neg n10, y_isS h j0, Option.bind_some]
      dsimp only
      by_cases c : opSr 3 (tO OL (z.2.2.1 + j))
      · rw [if1 ⟨by omega, c⟩, if_neg n10, if1 c, eu_X37_strings_56]; unfold du_X37_strings_56
        rw [W32_in (by omega) (by omega)]
      · rw [if0 (fun e : j < z.2.2.2.1 ∧ opSr 3 (tO OL (z.2.2.1 + j)) => c e.2), if_pos rfl, if0 c, e55]
    rw [eu_X37_strings_30] at i0 i1 i2 ⊢; unfold du_X37_strings_30 at i0 i1 i2 ⊢
    rw [jlpW_l b0, jlpW_l b1]
    refine ⟨i0, fun q => ?_, fun q => ?_⟩
    · rw [if1 (st.mp q).1]; exact i1 (st.mp q).2
    · by_cases c : opSr 3 (tO OL (z.2.2.1 + j))
      · rw [if1 c]; exact i2 fun e => q (st.mpr ⟨c, e⟩)
      · rw [if0 c]; exact i0
/-- a string's letters -/
theorem str_in (hl : ∀ i : Nat, True) : ∀ (m i : Nat) (s t : jS) (n : Nat), AG s t A H b lo NL I OL SL k z → jf t 41 H 34 < 3 → 0 ≤ j → j < z.2.2.2.1 → (tO OL (z.2.2.1 + j)).2.2.2.2.2.2.length = n → i + m = n →
    (∃ q r, u_X33_strings_59 s A x j n i = some (.inr q) ∧ u_X37_strings_104 t H x j n i = some (.inr (r, 0)) ∧ aBad s t A H q r) ∨
    (∃ u w, u_X33_strings_59 s A x j n i = u_X33_strings_90 u A x j ∧ u_X37_strings_104 t H x j n i = u_X37_strings_141 w H x j ∧ AG u w A H b lo NL I OL SL k z ∧ cFa A s u 0 0 ∧ tF H t w ∧ puQ A H s t m u w)
  | 0, i, s, t, n, h, h3, j0, j1, hn, hi => by
    refine .inr ⟨s, t, ?_, ?_, h, cFa.rfl, tF.rfl, puQ.rfl⟩
    · rw [eu_X33_strings_59]; unfold du_X33_strings_59
      refine jlpW_r ?_
      show b_X33_strings_59 s A x j n i = _
      unfold b_X33_strings_59
      rw [if_neg (by omega)]
    · rw [eu_X37_strings_104]; unfold du_X37_strings_104
      refine jlpW_r ?_
      show b_X37_strings_104 t H x j n i = _
      unfold b_X37_strings_104
      rw [if_neg (by omega)]
  | m + 1, i, s, t, n, h, h3, j0, j1, hn, hi => by
    obtain ⟨o1, o2, o3, og, o5⟩ := h.1.op j0 j1
    have l3000 := h.1.2.1.len o1 o2
    have st0 := h.1.st0
    have cs : m_X11_string s (A + (-3890)) (W32 (jf s 37 A 34 + j)) i = some ((tO OL (z.2.2.1 + j)).2.2.2.2.2.2.getD i 0) := by
      rw [h.2.1.1, W32_in (by omega) (by omega), c_str h.1.1.1 o1 o2 (by omega) (by omega) (by omega), Int.toNat_natCast]
    have ys : m_X39_string t (H + 8) (W32 (jf t 41 H 45 + j)) i = some (t, (tO OL (z.2.2.1 + j)).2.2.2.2.2.2.getD i 0) := by
      rw [h.2.1.2.1, W32_in (by omega) (by omega), y_str h.1.2.1.1 o1 o2 (by omega) (by omega), Int.toNat_natCast]
    generalize (tO OL (z.2.2.1 + j)).2.2.2.2.2.2.getD i 0 = ch at cs ys
    rcases put2 (x := ch) h h3 with ⟨q, r, e1, e2, e3⟩ | ⟨u, w, v, e1, e2, e3, e4, e5, e6⟩
    · left
      refine ⟨q, r, ?_, ?_, e3⟩
      · rw [eu_X33_strings_59]; unfold du_X33_strings_59
        refine jlpW_r (r := some (Sum.inr q)) ?_
        show b_X33_strings_59 s A x j n i = _
        unfold b_X33_strings_59
        rw [if_pos (by omega), cs, Option.bind_some, e1, Option.bind_some, e3.th]; rfl
      · rw [eu_X37_strings_104]; unfold du_X37_strings_104
        refine jlpW_r (r := some (Sum.inr (r, 0))) ?_
        show b_X37_strings_104 t H x j n i = _
        unfold b_X37_strings_104
        rw [if_pos (by omega), ys, Option.bind_some]
        dsimp only
        rw [e2, Option.bind_some, Wz_0]
        rfl
    · have h3' : jf w 41 H 34 < 3 := by rw [e6.2.1 _ _ _ (by omega)]; exact h3
      have ih := str_in hl m (i + 1) u w n e3 h3' j0 j1 hn (by omega)
      have s1 : u_X33_strings_59 s A x j n i = u_X33_strings_59 u A x j n ((i + 1 : Nat) : Int) := by
        rw [eu_X33_strings_59]; unfold du_X33_strings_59
        refine jlpW_l ?_
        show b_X33_strings_59 s A x j n i = _
        unfold b_X33_strings_59
        rw [if_pos (by omega), cs, Option.bind_some, e1, Option.bind_some]
        dsimp only
        rw [jth_ff, W32_in (by omega) (by omega)]; rfl
      have s2 : u_X37_strings_104 t H x j n i = u_X37_strings_104 w H x j n ((i + 1 : Nat) : Int) := by
        rw [eu_X37_strings_104]; unfold du_X37_strings_104
        refine jlpW_l ?_
        show b_X37_strings_104 t H x j n i = _
        unfold b_X37_strings_104
        rw [if_pos (by omega), ys, Option.bind_some]
        dsimp only
        rw [e2, Option.bind_some]
        dsimp only
        rw [if_neg n10, W32_in (by omega) (by omega)]; rfl
      rw [s1, s2]
      rcases ih with ⟨q, r, d1, d2, d3⟩ | ⟨u', w', d1, d2, d3, d4, d5, d6⟩
      · exact .inl ⟨q, r, d1, d2, d3.after e4 e5⟩
      · refine .inr ⟨u', w', d1, d2, d3, (e4.trans d4 : cFa A s u' (0 + 0) (0 + 0)), e5.trans d5, ?_⟩
        have := e6.trans d6
        rw [show (1 : Int) + (m : Int) = ((m + 1 : Nat) : Int) by omega] at this
        exact this
/-- all strings -/
theorem str_out : ∀ (m : Nat) (j : Int) (s t : jS), AG s t A H b lo NL I OL SL k z → jf t 41 H 34 < 3 → 0 ≤ j → j + m = z.2.2.2.1 → stO s t A H b lo NL I OL SL k z (u_X33_strings_32 s A x j) (u_X37_strings_76 t H x j) (dQ t H)
  | 0, j, s, t, h, h3, j0, hj => by
    have e1 : u_X33_strings_32 s A x j = some (s, false, 0) := by
      rw [eu_X33_strings_32]; unfold du_X33_strings_32
      refine jlpW_r (r := some (s, false, 0)) ?_
      show b_X33_strings_32 s A x j = _
      unfold b_X33_strings_32
      rw [h.2.1.2.2.1, if_neg (by omega)]
    have e2 : u_X37_strings_76 t H x j = some (t, 1) := by
      rw [eu_X37_strings_76]; unfold du_X37_strings_76
      refine jlpW_r (r := some (t, 1)) ?_
      show b_X37_strings_76 t H x j = _
      unfold b_X37_strings_76
      rw [h.2.1.2.2.2, if_neg (by omega), Wz_1]
    rw [e1, e2]
    exact .ret h rfl
  | m + 1, j, s, t, h, h3, j0, hj => by
    have j1 : j < z.2.2.2.1 := by omega
    obtain ⟨o1, o2, o3, og, o5⟩ := h.1.op j0 j1
    have st00 := h.1.st0
    have c6 := h.cop j0 j1 (w := 6) (by decide) (by decide)
    have y6 := h.yop j0 j1 (w := 6) (by decide) (by decide)
    have q6 : opQ1 (tO OL (z.2.2.1 + j)) 6 = ((tO OL (z.2.2.1 + j)).2.2.2.2.2.2.length : Int) := rfl
    rw [q6] at c6 y6
    have eb : jc3 b_X33_strings_32 [A, x, j] s = u_X33_strings_59 s A x j (tO OL (z.2.2.1 + j)).2.2.2.2.2.2.length 0 := by
      show b_X33_strings_32 s A x j = _
      unfold b_X33_strings_32
      rw [h.2.1.2.2.1, if_pos (by omega), c6, Option.bind_some]
    have ey : jc3 b_X37_strings_76 [H, x, j] t = u_X37_strings_104 t H x j (tO OL (z.2.2.1 + j)).2.2.2.2.2.2.length 0 := by
      show b_X37_strings_76 t H x j = _
      unfold b_X37_strings_76
      rw [h.2.1.2.2.2, if_pos (by omega), y6, Option.bind_some]
    rcases str_in (x := x) (fun _ => trivial) (tO OL (z.2.2.1 + j)).2.2.2.2.2.2.length 0 s t _ h h3 j0 j1 rfl (by omega) with ⟨q, r, e1, e2, e3⟩ | ⟨u, w, e1, e2, e3, e4, e5, e6⟩
    · left
      refine ⟨q, r, ?_, ?_, e3⟩
      · rw [eu_X33_strings_32]; unfold du_X33_strings_32
        exact jlpW_r (r := some q) (by rw [eb]; exact e1)
      · rw [eu_X37_strings_76]; unfold du_X37_strings_76
        exact jlpW_r (r := some (r, 0)) (by rw [ey]; exact e2)
    · have e1' : u_X33_strings_59 s A x j (tO OL (z.2.2.1 + j)).2.2.2.2.2.2.length 0 = u_X33_strings_90 u A x j := e1
      have e2' : u_X37_strings_104 t H x j (tO OL (z.2.2.1 + j)).2.2.2.2.2.2.length 0 = u_X37_strings_141 w H x j := e2
      rw [e1'] at eb
      rw [e2'] at ey
      have h3' : jf w 41 H 34 < 3 := by rw [e6.2.1 _ _ _ (by omega)]; exact h3
      have w26 : jf w 41 H 26 = jf t 41 H 26 := e6.2.1 _ _ _ (by omega)
      have fin : ∀ u' w', AG u' w' A H b lo NL I OL SL k z → cFa A s u' 0 0 → tF H t w' → jf w' 41 H 34 < 3 → jf w' 41 H 26 = jf t 41 H 26 → u_X33_strings_90 u A x j = u_X33_strings_99 u' A x j → u_X37_strings_141 w H x j = u_X37_strings_155 w' H x j → stO s t A H b lo NL I OL SL k z (u_X33_strings_32 s A x j) (u_X37_strings_76 t H x j) (dQ t H) := fun u' w' g d1 d2 d3 d4 z1 z2 => by
        have s1 : u_X33_strings_32 s A x j = u_X33_strings_32 u' A x (j + 1) := by
          rw [eu_X33_strings_32]; unfold du_X33_strings_32
          refine jlpW_l ?_
          rw [eb, z1, eu_X33_strings_99]; unfold du_X33_strings_99
          rw [W32_in (by omega) (by omega)]
        have s2 : u_X37_strings_76 t H x j = u_X37_strings_76 w' H x (j + 1) := by
          rw [eu_X37_strings_76]; unfold du_X37_strings_76
          refine jlpW_l ?_
          rw [ey, z2, eu_X37_strings_155]; unfold du_X37_strings_155
          rw [W32_in (by omega) (by omega)]
        rw [s1, s2]
        rcases str_out m (j + 1) u' w' g d3 (by omega) (by omega) with ⟨q, r, k1, k2, k3⟩ | ⟨u2, w2, v2, k1, k2, k3, k4, k5, k6⟩
        · exact .inl ⟨q, r, k1, k2, k3.after d1 d2⟩
        · refine .inr ⟨u2, w2, v2, k1, k2, k3, (d1.trans k4 : cFa A s u2 (0 + 0) (0 + 0)), d2.trans k5, ?_⟩
          show jf w2 41 H 26 = jf t 41 H 26
          have k6' : jf w2 41 H 26 = jf w' 41 H 26 := k6
          rw [k6', d4]
      by_cases cx : x = 0
      · refine fin u w e3 e4 e5 h3' w26 ?_ ?_
        · rw [eu_X33_strings_90]; unfold du_X33_strings_90
          rw [if_pos cx]
        · rw [eu_X37_strings_141]; unfold du_X37_strings_141
          rw [if_pos cx]
      · rcases put2 (x := 0) e3 h3' with ⟨q, r, k1, k2, k3⟩ | ⟨u', w', v', k1, k2, k3, k4, k5, k6⟩
        · left
          refine ⟨q, r, ?_, ?_, k3.after e4 e5⟩
          · rw [eu_X33_strings_32]; unfold du_X33_strings_32
            refine jlpW_r (r := some q) ?_
            rw [eb, eu_X33_strings_90]; unfold du_X33_strings_90
            rw [if_neg cx, k1, Option.bind_some, k3.th]; rfl
          · rw [eu_X37_strings_76]; unfold du_X37_strings_76
            refine jlpW_r (r := some (r, 0)) ?_
            rw [ey, eu_X37_strings_141]; unfold du_X37_strings_141
            rw [if_neg cx, k2, Option.bind_some, Wz_0]; rfl
        · refine fin u' w' k3 (e4.trans k4 : cFa A s u' (0 + 0) (0 + 0)) (e5.trans k5) (by rw [k6.2.1 _ _ _ (by omega)]; exact h3') (by rw [k6.2.1 _ _ _ (by omega)]; exact w26) ?_ ?_
          · rw [eu_X33_strings_90]; unfold du_X33_strings_90
            rw [if_neg cx, k1, Option.bind_some]
            dsimp only
            rw [jth_ff]
          · rw [eu_X37_strings_141]; unfold du_X37_strings_141
            rw [if_neg cx, k2, Option.bind_some]
            dsimp only
            rw [if_neg n10]
theorem strings2 (h : AG s t A H b lo NL I OL SL k z) : stO s t A H b lo NL I OL SL k z (m_X33_strings s A x) (m_X37_strings t H x) (dQ t H) := by
  have n0 := h.1.stg.2.2.2.2.1
  obtain ⟨m, hm, -⟩ := nat_of n0
  have a30 := h.1.2.2.2.1.2.2.2.1.1
  obtain ⟨k1, k2⟩ := c_all2 (v := 3) h (.inr rfl)
  obtain ⟨l0, l1, l2⟩ := y_strL (x := x) h m 0 (by omega) (by omega)
  rw [em_X33_strings, em_X37_strings]; unfold dm_X33_strings dm_X37_strings
  rw [a30.1, h.2.1.2.2.2]
  by_cases c3 : jf t 41 H 34 = 3
  · rw [if_pos c3, if_pos c3, eu_X33_strings_14]; unfold du_X33_strings_14
    exact .bad0 h (by decide) fun _ _ => rfl
  rw [if_neg c3, if_neg c3, eu_X33_strings_14, eu_X37_strings_27]; unfold du_X33_strings_14 du_X37_strings_27
  rw [needOk (by decide)]
  dsimp only
  rw [jth_ff]
  by_cases ca : 0 < z.2.2.2.1 ∧ alS 3 OL z 0
  · rw [k1 ca, Option.bind_some, if_pos ca.1, l1 ca.2, needOk (by decide), eu_X37_strings_63]; unfold du_X37_strings_63
    dsimp only
    rw [jth_ff, if_neg n10]
    exact str_out m 0 s t h (by omega) (by omega) (by omega)
  · have e63 : (if 0 < z.2.2.2.1 then u_X37_strings_30 t H x 1 0 else u_X37_strings_30 t H x 0 0) = (m_X37_fail t H 12).bind fun q1 => some (q1.1, Wz q1.2) := by
      have : u_X37_strings_63 t H x 0 = (m_X37_fail t H 12).bind fun q1 => some (q1.1, Wz q1.2) := by
        rw [eu_X37_strings_63]; unfold du_X37_strings_63
        rw [if_pos rfl]
      by_cases c : 0 < z.2.2.2.1
      · rw [if_pos c, l2 fun e => ca ⟨c, e⟩, this]
      · rw [if_neg c, l0, this]
    rw [k2 ca, Option.bind_some, e63]
    exact .bad0 h (by decide) fun _ _ => rfl
end jDirec5
