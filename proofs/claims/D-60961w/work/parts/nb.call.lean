/-! the linker: long calls relocated, both sides *-/
set_option maxRecDepth 100000
section jLca
variable {s t u u1 u2 w w' s' t' t1 : jS} {a b k m mm n nn o p q v l x c f g i j A H C K S X X' P Q V D F M rr n' sec wd r how val q0 kd wc wt sz Y y0 h' : Int} {O : Int → Int → Int → Int → Int} {d e z y : Int → Int → Int} {G B : Int → Int}
/-- two runs of bytes, one behind the other -/
theorem rwW.join (g1 : rwW C H s t sec A m u w) (c : cRS C u u1) (e : ∀ o p, cBy u1 C o p = cBy u C o p) (g2 : rwW C H u1 w sec (A + m) n u2 w') (m0 : 0 ≤ m) (n0 : 0 ≤ n) (s0 : 0 ≤ sec) (s3 : sec < 3) (b0 : 0 ≤ A) (b1 : A + m + n ≤ 4096) : rwW C H s t sec A (m + n) u2 w' := by
  obtain ⟨a1, a2, a3, a4, a5⟩ := g1
  obtain ⟨c1, c2, c3, c4, c5⟩ := g2
  refine ⟨(a1.trans c).trans c1, a2.trans c2, fun i i0 i1 => ?_, fun o p o0 o1 q => ?_, fun o p o0 o1 p0 p1 q => ?_⟩
  · by_cases ci : i < m
    · obtain ⟨v, v1, v2, v3⟩ := a3 i i0 ci
      exact ⟨v, v1, by rw [c4 sec (A + i) s0 s3 (by omega), e]; exact v2, by rw [c5 sec (A + i) s0 s3 (by omega) (by omega) (by omega)]; exact v3⟩
    · have := c3 (i - m) (by omega) (by omega)
      rw [show A + m + (i - m) = A + i by omega] at this
      exact this
  · rw [c4 o p o0 o1 (by omega), e]; exact a4 o p o0 o1 (by omega)
  · rw [c5 o p o0 o1 p0 p1 (by omega)]; exact a5 o p o0 o1 p0 p1 (by omega)
/-- a number that fits is put -/
theorem x_fitS (hO : outK C s) (hR : pRows t (H + 5)) (b0 : 0 ≤ A) (b1 : A + 4 ≤ 4096) (hk : isKd wd r) (hj : jin wd) (r0 : 0 ≤ r) (r1 : r < 48) (ks : knS r.toNat) (hi : pImm r.toNat i = true) : ∃ u w', m_X35_put s (C + 4275) (C + 4275 + 34 + 0) A 4 (fitW r wd i) = some (u, 0) ∧ m_X37_fitted t H rr (4096 * 0 + A) wd i = some (w', 1) ∧ rwW C H s t 0 A 4 u w' ∧ (∀ c a k, ¬ (c = 1001 ∧ a = C + 4275 + 34 + 0) → jf u c a k = jf s c a k) ∧ ∀ c a k, ¬ (c = 1000 ∧ a = H + 205 ∨ a = H + 4 ∨ a = H + 6) → jf w' c a k = jf t c a k := by
  obtain ⟨-, g2⟩ := t_fittedR (rr := rr) (at0 := 4096 * 0 + A) (i := i) hR hk hj (by omega) ks
  obtain ⟨t1, w1, e2⟩ := g2 hi
  have wb := fitW_in (r := r) (w := wd) (i := i)
  obtain ⟨u, w', e3, e4, hw, -, F1, F2⟩ := x_puts (sec := 0) (l := C + 4275) (t := t1) (H := H) (A := A) (m := 4) (p := fitW r wd i) (q := fitW r wd i) hO (by decide) (by decide) b0 b1 (by decide) (by decide) ⟨by have := wb.1; omega, by have := wb.2; omega⟩ ⟨by have := wb.1; omega, by have := wb.2; omega⟩ (fun _ _ _ => rfl)
  have e4' : fitW r wd i % 4 = 3 := (fitW_4 r0 (by omega)).mpr r1
  refine ⟨u, w', e3, by rw [e2, if_pos e4', e4, Option.bind_some], hw.pre w1, F1, fun c a k q => ?_⟩
  rw [F2 _ _ _ (by omega), w1.2 _ _ _ (by omega)]
/-- all eight bytes of a call -/
theorem x_call8 (h : rmS C H S O s t e d z G x j 0 A K P) (hb : jBd s 1 6) (x0 : 0 ≤ x) (x1 : x < 6) (hS : sIn S x) (j0 : 0 ≤ j) (j1 : j < O x 2 2 0) (b0 : 0 ≤ A) (b1 : A + 8 ≤ 4096) (jD : j34 D) (wg : wdH C s 19 4 wc wt) (wF : m_X37_wordFor t H (300 * x + j) 0 = some wt) (w4 : ∀ u w', outK C u → tUn w' H x (O x) → (∀ k, jf w' 41 H k = jf t 41 H k) → jf u 39 (C + 4275) 38 = A + 4 → (∀ p, A + 4 ≤ p → p < 4096 → cBy u C 0 p = cBy s C 0 p ∧ tBy w' H 0 p = tBy t H 0 p) → ∃ wc4 wt4, wdH C u 24 4 wc4 wt4 ∧ m_X37_wordFor w' H (300 * x + j) 4 = some wt4) : ∃ r q, u_X35_call_27 s (C + 4275) D 8 = some r ∧ u_X37_call_55 t H (300 * x + j) D 8 y0 = some q ∧ rwE C H s t 0 A 8 r q := by
  obtain ⟨-, -, hut, vo, g, j3⟩ := h.1.rl x0 x1 hS j0 j1
  obtain ⟨k, t1, e2, w1, hc⟩ := x_wantG h.1 hb h.2.1 x0 x1 j0 j3 (how := 19) (by unfold hwK; omega) (.inr rfl) wg 8
  rw [eu_X35_call_27, eu_X37_call_55]; unfold du_X35_call_27 du_X37_call_55
  rw [if_pos rfl, if_neg (by decide), wF, Option.bind_some, e2, Option.bind_some]
  dsimp only
  rcases hc with ⟨c, ew, hk, ok, ew1, -⟩ | ⟨c, -, u', e', w', ew1, -, e5, hx⟩
  rotate_left
  · have k1 : ¬ k = 1 := fun q => c (by unfold tkW; omega)
    rw [if_neg k1, ew1, e5, Option.bind_some, Option.bind_some, Wz_0]
    exact ⟨(u', true, e'), (w', 0), rfl, rfl, hx⟩
  have k1 : k = 1 := by unfold tkW at c; omega
  subst k1
  have h6 := h.rs (u := s) (w' := t1) .rfl (fun _ _ _ _ _ => rfl) w1
  rw [if_pos rfl, ew1, Option.bind_some, jth_ff, c_isIntR, t_isIntR, Option.bind_some, Option.bind_some]
  dsimp only
  by_cases cI : -2147483648 ≤ D ∧ D ≤ 2147483647
  rotate_left
  · obtain ⟨u', e', w', e3, e4, hx⟩ := x_no (m := 8) (f := 8) h6.1 hb h6.2.1 x0 x1 j0 j3 (by decide)
    rw [if_neg cI, e3, Option.bind_some, if_pos rfl, e4, Option.bind_some, Wz_0]
    exact ⟨(u', true, e'), (w', 0), rfl, rfl, hx.pre w1⟩
  have hi := hiP_lo (v := D)
  have lo := loP_lo (v := D)
  have i1 : pImm (1 : Int).toNat (hiP D) = true := (pImm_1 _).mpr ⟨hi.1, hi.2, by omega⟩
  obtain ⟨-, -, d3⟩ := c_fitR (i := hiP D) h.1.2.1.1.1 hk wg.2.1 wg.1 (how := 19) (by unfold hwK; omega) (.inr rfl)
  obtain ⟨u, w', p1, p2, rw1, F1, F2⟩ := x_fitS (rr := 300 * x + j) (i := hiP D) h6.1.2.2.2 h6.1.2.1.2.1 b0 (by omega) hk wg.2.1 (by decide) (by decide) (by decide) i1
  rw [if_pos cI, c_need1, Option.bind_some, jth_ff, if_neg n10, c_upperOf jD, t_high jD, Option.bind_some, Option.bind_some, d3 ok i1, h.2.1.1.2.2, p1, Option.bind_some, Option.bind_some, jth_ff, h6.2.1.2.2, ew, p2, Option.bind_some, if_neg n10]
  dsimp only
  have c38 : jf u 39 (C + 4275) 38 = A := by rw [F1 _ _ _ (by omega)]; exact h.2.1.1.2.2
  have T : ∀ k, jf w' 41 H k = jf t 41 H k := fun k => by rw [F2 _ _ _ (by omega)]; exact w1.2 _ _ _ (by omega)
  rw [c38, W32_in (z := A + 4) (by omega) (by omega)]
  simp only [jls]
  obtain ⟨u2, E2⟩ : ∃ u2, u2 = jp u 39 (C + 4275) 38 (A + 4) := ⟨_, rfl⟩
  obtain ⟨f2, p_2, -⟩ := jpF E2
  rw [← E2]
  have R2 : cRS C u u2 := cRS.rfl.wr E2 (by omega)
  have by2 : ∀ o p, cBy u2 C o p = cBy u C o p := fun o p => f2 _ _ _ (by omega)
  have rw1' := rw1.pre w1
  have h2 : rlS C H S O u2 w' e d z G := h.1.rw ((rw1.1.trans R2).rw) rw1'.2.1.rw
  obtain ⟨-, -, hut2, -⟩ := h2.rl x0 x1 hS j0 j1
  obtain ⟨wc4, wt4, wg4, wF4⟩ := w4 u2 w' h2.2.2.2 hut2 T p_2 fun p q0 q1 => ⟨by rw [by2]; exact rw1.2.2.2.1 0 p (by decide) (by decide) (by omega), rw1'.2.2.2.2 0 p (by decide) (by decide) (by omega) q1 (by omega)⟩
  obtain ⟨r4, g1, hk4⟩ := c_kind h2.2.1.1.1.1 wg4.2.1
  obtain ⟨k4, t3, -, g2, hk4', w3, -⟩ := x_kind h2.2.1 wg4.2.2.1
  obtain ⟨xw, xe⟩ := wg4.2.2.2 r4 k4 hk4 hk4'
  rw [wg4.1, wF4, Option.bind_some, Option.bind_some, show C + 4275 + -4274 = C + 1 by omega, g1, g2, Option.bind_some, Option.bind_some]
  dsimp only
  have hb2 : jBd u2 1 6 := (hb.sm rw1.1.1).sm R2.1
  by_cases c4 : k4 = 3
  · have tk4 : tkW 24 k4 := tk24 (.inl rfl) (.inl c4)
    have we := xe tk4
    rw [we] at hk4'
    have := isKd_one hk4 hk4'
    have r3 : r4 = 3 := by omega
    have i3 : pImm r4.toNat (loP D) = true := (immL (by omega)).mpr ⟨lo.1, lo.2⟩
    obtain ⟨u3, w5, p3, p4, rw3, -, -⟩ := x_fitS (A := A + 4) (rr := 300 * x + j) (i := loP D) (h2.w6 w3).2.2.2 (h2.w6 w3).2.1.2.1 (by omega) (by omega) hk4 wg4.2.1 (by omega) (by omega) (by omega) i3
    have e6 : m_X2_fit u2 (C + 1) wc4 (loP D) = some (u2, false, fitW r4 wc4 (loP D)) := (c_fit h2.2.1.1.1.1 wg4.2.1 hk4).2 ⟨by omega, has3 (by omega), i3⟩
    rw [if_pos r3, if_pos c4, eu_X35_call_98]; unfold du_X35_call_98
    rw [c_need1, Option.bind_some, jth_ff, jix_in (by decide) (by decide), Option.bind_some, c_lowerOf, t_low, Option.bind_some, Option.bind_some]
    dsimp only
    rw [show C + 4275 + -4274 = C + 1 by omega, e6, Option.bind_some, jth_ff]
    dsimp only
    rw [p_2, show C + 4275 + 33 + 1 + 1 * 0 = C + 4275 + 34 + 0 by omega, p3, Option.bind_some, w3.2 _ _ _ (by omega), T, h.2.1.2.2, W32_in (by omega) (by omega), we, show 4096 * 0 + A + 4 = 4096 * 0 + (A + 4) by omega, p4, Option.bind_some, Wz_1]
    exact ⟨_, _, rfl, rfl, .inr ⟨rfl, rfl, rw1'.join R2 by2 (rw3.pre w3) (by decide) (by decide) (by decide) (by decide) b0 (by omega)⟩⟩
  · have r3 : ¬ r4 = 3 := fun q => c4 (by
      have w34 : wc4 % 4 = 3 := by
        by_cases z : wc4 % 4 = 3
        · exact z
        · have := kn48 hk4 z; omega
      have tk := xw.mpr ⟨⟨fun _ => rfl, fun _ => w34⟩, tk24 (.inl rfl) (.inl q)⟩
      have we := xe tk
      rw [we] at hk4'
      rw [← isKd_one hk4 hk4']; exact q)
    obtain ⟨u5, e', w5, b1, b2, hx, -⟩ := rl_bad (f := 7) (h2.w6 w3) hb2 (by rw [f2 _ _ _ (by omega), F1 _ _ _ (by omega)]; exact h.2.1.1.1) (by rw [f2 _ _ _ (by omega), F1 _ _ _ (by omega)]; exact h.2.1.1.2.1) (by rw [w3.2 _ _ _ (by omega), T]; exact h.2.1.2.1) x0 x1 j0 j3 (by decide)
    rw [if_neg r3, if_neg c4, eu_X35_call_98]; unfold du_X35_call_98
    rw [b1, b2, Option.bind_some, Option.bind_some, Wz_0]
    exact ⟨(u5, true, e'), (w5, 0), rfl, rfl, .inl ⟨rfl, hx.rs (rw1.1.trans R2).rw (rw1'.2.1.trans w3.rs).rw⟩⟩
end jLca
