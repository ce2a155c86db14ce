/-! the linker: low parts of numbers relocated, both sides *-/
set_option maxRecDepth 100000
section jLlw
variable {s t u u1 w' s' t' t1 : jS} {a b k m mm n nn o p q v l x c f g i j A H C K S X P Q V D F rr n' sec w r how val q0 kd wc wt sz : Int} {O : Int → Int → Int → Int → Int} {d e z y : Int → Int → Int} {G B : Int → Int}
/-- a word that is wanted, then what each does -/
theorem x_wgen (h : rlS C H S O s t e d z G) (hb : jBd s 1 6) (ha : atR C H s t x j 0 A) (x0 : 0 ≤ x) (x1 : x < 6) (j0 : 0 ≤ j) (j1 : j < 300) (hh : hwK how) (wg : wdH C s how 4 wc wt) (U : Option (jS × Bool × Int)) (T : Int → jS → Option (jS × Int)) (hN : ∀ u' e', (∀ i, m_X35_fit s (C + 4275) how 4 i = some (u', true, e')) → U = some (u', true, e')) (hP : ∀ k t1, isKd wc k → okW how 4 wc k → tW6 H t t1 → ∃ r' q, U = some r' ∧ T wc t1 = some q ∧ rwE C H s t1 0 A m r' q) : ∃ r' q, U = some r' ∧ ((m_X38_kind t (H + 4) wt).bind fun q2 => (m_X37_takes q2.1 how q2.2).bind fun v3 => if v3 = 0 then (m_X37_wrong q2.1 H 7 (300 * x + j)).bind fun q4 => some (q4.1, Wz q4.2) else T wt q2.1) = some q ∧ rwE C H s t 0 A m r' q := by
  obtain ⟨k, t1, e2, w1, hc⟩ := x_wantG h hb ha x0 x1 j0 j1 hh (.inr rfl) wg m
  rw [e2, Option.bind_some]
  dsimp only
  rcases hc with ⟨c, ew, hk, ok, ew1, e3⟩ | ⟨c, e3, u, e', w', ew1, ef, e5, hx⟩
  · obtain ⟨r', q, e4, e5, hq⟩ := hP k t1 hk ok w1
    rw [e3, Option.bind_some, if_neg n10, ew]
    exact ⟨_, _, e4, e5, hq.pre w1⟩
  · rw [e3, Option.bind_some, if_pos rfl, e5, Option.bind_some, Wz_0]
    exact ⟨_, _, hN u e' ef, rfl, hx⟩
theorem tkL (h : tkW how k) (hw : how = 24 ∨ how = 25 ∨ how = 27 ∨ how = 28) : k = 3 ∨ 10 ≤ k ∧ k ≤ 23 := by unfold tkW at h; omega
/-- the low part of a number -/
theorem x_lowF (h : rlS C H S O s t e d z G) (hp : jf s 39 (C + 4275) 38 = A) (ht : jf t 41 H 115 = 4096 * 0 + A) (b0 : 0 ≤ A) (b1 : A + 4 ≤ 4096) (hk : isKd w r) (hj : jin w) (hA : m_X35_wordAt s (C + 4275) 4 = some w) (hw : how = 24 ∨ how = 25 ∨ how = 27 ∨ how = 28) (ok : okW how 4 w r) (i0 : -2048 ≤ i) (i1 : i ≤ 2047) : ∃ u w', m_X35_fit s (C + 4275) how 4 i = some (u, false, 0) ∧ m_X37_lowWord t H rr w i (-1) = some (w', 1) ∧ rwE C H s t 0 A 4 (u, false, 0) (w', 1) := by
  have rk := tkL ok.2 hw
  obtain ⟨-, -, d3⟩ := c_fitR (i := i) (how := how) h.2.1.1.1 hk hj hA (by unfold hwK; omega) (.inr rfl)
  obtain ⟨-, g2⟩ := t_lowR (rr := rr) (v := i) (x := -1) h.2.1.2.1 hj hk rk (.inl rfl)
  obtain ⟨t1, w1, e2⟩ := g2 ⟨i0, i1⟩
  have im := (immL (k := r.toNat) (v := i) (by omega)).mpr ⟨i0, i1⟩
  have eP : pPut r.toNat (lowP r w i (-1)) = fitW r w i := by
    unfold lowP fitW
    rw [if_pos (by decide), l2i_in (by omega) (by omega)]
  have wb := fitW_in (r := r) (w := w) (i := i)
  obtain ⟨u, w', e3, e4, hw, -⟩ := x_puts (sec := 0) (l := C + 4275) (t := t1) (H := H) (A := A) (m := 4) (p := fitW r w i) (q := fitW r w i) h.2.2.2 (by decide) (by decide) b0 b1 (by decide) (by decide) ⟨by have := wb.1; omega, by have := wb.2; omega⟩ ⟨by have := wb.1; omega, by have := wb.2; omega⟩ (fun _ _ _ => rfl)
  exact ⟨u, w', by rw [d3 ok im, hp, e3, Option.bind_some], by rw [e2, ht, eP, e4, Option.bind_some], .inr ⟨rfl, rfl, hw.pre w1⟩⟩
/-- with another base register -/
theorem x_lowB (h : rlS C H S O s t e d z G) (hp : jf s 39 (C + 4275) 38 = A) (ht : jf t 41 H 115 = 4096 * 0 + A) (b0 : 0 ≤ A) (b1 : A + 4 ≤ 4096) (hk : isKd w r) (hj : jin w) (hA : m_X35_wordAt s (C + 4275) 4 = some w) (hw : how = 24 ∨ how = 25 ∨ how = 27 ∨ how = 28) (ok : okW how 4 w r) (hx : x = 0 ∨ x = 3) (i0 : -2048 ≤ i) (i1 : i ≤ 2047) : ∃ u w', m_X35_based s (C + 4275) how x i = some (u, false, 0) ∧ m_X37_lowWord t H rr w i x = some (w', 1) ∧ rwE C H s t 0 A 4 (u, false, 0) (w', 1) := by
  have rk := tkL ok.2 hw
  obtain ⟨-, -, d3⟩ := c_fitR (i := i) (how := how) h.2.1.1.1 hk hj hA (by unfold hwK; omega) (.inr rfl)
  obtain ⟨-, g2⟩ := t_lowR (rr := rr) (v := i) (x := x) h.2.1.2.1 hj hk rk (.inr hx)
  obtain ⟨t1, w1, e2⟩ := g2 ⟨i0, i1⟩
  have im := (immL (k := r.toNat) (v := i) (by omega)).mpr ⟨i0, i1⟩
  have wb := fitW_in (r := r) (w := w) (i := i)
  obtain ⟨o0, oK, oN⟩ := h.2.2.2 0 (by decide) (by decide)
  obtain ⟨u1, e3, m1, b3, F1⟩ := c_putB (l := C + 4275) (p := A) (n := 4) (v := fitW r w i) o0 oK oN b0 b1 (by decide) (by decide) ⟨by have := wb.1; omega, by have := wb.2; omega⟩
  have hO1 : outK C u1 := h.2.2.2.cg m1
  have hA1 := c_wordA (n := 4) (B := byV (fitW r w i)) (p := A) hO1 (by rw [F1 _ _ _ (by omega)]; exact hp) b0 b1 (by decide) (fun k k0 k1 => byV_lo) (fun k k0 k1 => b3 k k0 k1)
  have e4 : (256 : Int) ^ 4 = 4294967296 := by decide
  have eW : W32 (leN (byV (fitW r w i)) (4 : Int).toNat) = fitW r w i := by
    show W32 (leN (byV (fitW r w i)) 4) = _
    rw [leN_by, e4]
    refine (W32_cong ?_).trans (W32_in wb.1 wb.2)
    omega
  rw [eW] at hA1
  have eB : I_or (I_and (fitW r w i) (-1015809)) (I_shl x 15) = pPut r.toNat (lowP r w i x) := by
    unfold fitW lowP
    rw [basW (by omega) (by omega) _ (by omega) (by omega), if_neg (by omega), l2i_in (by omega) (by omega)]
  have wb2 := pPut_in r.toNat (lowP r w i x)
  obtain ⟨u, w', e5, e6, hw, -⟩ := x_puts (sec := 0) (l := C + 4275) (s := u1) (t := t1) (H := H) (A := A) (m := 4) (p := pPut r.toNat (lowP r w i x)) (q := pPut r.toNat (lowP r w i x)) hO1 (by decide) (by decide) b0 b1 (by decide) (by decide) ⟨by have := wb2.1; omega, by have := wb2.2; omega⟩ ⟨by have := wb2.1; omega, by have := wb2.2; omega⟩ (fun _ _ _ => rfl)
  refine ⟨u, w', ?_, by rw [e2, ht, e6, Option.bind_some], .inr ⟨rfl, rfl, rwW.pre ⟨cRS.trans (u := u1) ⟨m1, fun c a k q => F1 _ _ _ (by omega)⟩ hw.1, hw.2.1, hw.2.2.1, fun o' p' o0' o1' q => ?_, hw.2.2.2.2⟩ w1⟩⟩
  · rw [em_X35_based]; unfold dm_X35_based
    rw [d3 ok im, hp, e3, Option.bind_some, Option.bind_some, jth_ff]
    dsimp only
    rw [hA1, Option.bind_some, jix_in (by decide) (by decide), Option.bind_some, F1 _ _ _ (by omega), hp, show C + 4275 + 33 + 1 + 1 * 0 = C + 4275 + 34 + 0 by omega, eB, e5, Option.bind_some]
  · rw [hw.2.2.2.1 o' p' o0' o1' q]; exact F1 _ _ _ (by omega)
/-- whether a unit's place is loose, as both have it -/
def flR (C H : Int) (O : Int → Int → Int → Int → Int) (s t : jS) (x F : Int) : Prop := (jf s 39 (C + 4275) 33 = F ∧ jf t 41 H 106 = F) ∧ rxC C s (O x)
theorem flR.rs (h : flR C H O s t x F) (g : cRS C s u) (g' : tRS H t w') : flR C H O u w' x F := by
  obtain ⟨⟨h1, h2⟩, h3⟩ := h
  exact ⟨⟨by rw [g.2 _ _ _ (by omega)]; exact h1, by rw [g'.2 _ _ _ (by omega)]; exact h2⟩, fun a a0 a1 => by rw [g.2 _ _ _ (by omega)]; exact h3 a a0 a1⟩
end jLlw
