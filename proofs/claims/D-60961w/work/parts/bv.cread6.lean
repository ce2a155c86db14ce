/-! the component reads a file: symbols -/
section jCread6
variable {s t u : jS} {B N R n p f a b x y z e k m : Int} {g g' : Int → Int} {o : Int → Int → Int → Int} {st sy rl : Int} {d w : Int → Int}
theorem nmL_ex (h0 : p ≤ z) (h : g z = 0) : ∃ m, nmLe g p m ∧ p + m ≤ z := by
  have key : ∀ (j : Nat) (p : Int), z - p = j → ∃ m, nmLe g p m ∧ p + m ≤ z := by
    intro j
    induction j with
    | zero =>
      intro p hp
      have : p = z := by omega
      subst this
      exact ⟨0, ⟨Int.le_refl _, by rw [Int.add_zero]; exact h, fun i i0 i1 => by omega⟩, by omega⟩
    | succ j ih =>
      intro p hp
      by_cases c : g p = 0
      · exact ⟨0, ⟨Int.le_refl _, by rw [Int.add_zero]; exact c, fun i i0 i1 => by omega⟩, by omega⟩
      · obtain ⟨m, ⟨m0, m1, m2⟩, m3⟩ := ih (p + 1) (by omega)
        refine ⟨m + 1, ⟨by omega, by rw [show p + (m + 1) = p + 1 + m by omega]; exact m1, fun i i0 i1 => ?_⟩, by omega⟩
        by_cases ci : i = 0
        · subst ci; rw [Int.add_zero]; exact c
        · have := m2 (i - 1) (by omega) (by omega)
          rw [show p + 1 + (i - 1) = p + i by omega] at this
          exact this
  exact key (z - p).toNat p (by omega)
/-- letters of a name so far -/
def dN (g : Int → Int) (p i : Int) : Int → Int := fun j => if j = 5 then i else g (p + (j - 6))
theorem cNm.nx {i : Int} (h : cNm s y (dPut (dN g p i) (g (p + i)))) (i0 : 0 ≤ i) : cNm s y (dN g p (i + 1)) := by
  obtain ⟨h1, h2⟩ := h
  have e5 : dPut (dN g p i) (g (p + i)) 5 = i + 1 := rfl
  rw [e5] at h1 h2
  refine ⟨h1, fun j j0 j1 => ?_⟩
  have j1 : j < i + 1 := j1
  rw [h2 j j0 j1]
  have e6 : dN g p i 5 = i := rfl
  unfold dPut
  rw [if_neg (by omega), e6]
  unfold dN
  by_cases c : j = i
  · rw [if_pos (by omega), if_neg (by omega), c]; congr 1; omega
  · rw [if_neg (by omega), if_neg (by omega), if_neg (by omega)]
theorem c_rname (C : rC s R B g n) (h : rH s u R B g n) (hr : rN u R g) (hP : Pr g n) (x0 : 0 ≤ x) (x1 : x < 4294967296) : jE (m_X21_isName u R x) fun q => jFx u q.1 (R + 617) 2 ∧ (x < sR g 9 ∧ nmG g (fR g 9 + x) ∧ q.2 = 1 ∧ cNm q.1 (R + 617) (dN g (fR g 9 + x) (nLn g (fR g 9 + x))) ∨ ¬ (x < sR g 9 ∧ nmG g (fR g 9 + x)) ∧ q.2 = 0) := by
  have hn := C.1.2.1
  have hd := hP.1
  obtain ⟨p1, p2, p3, p4, -⟩ := hP.part (k := 9) (by omega)
  obtain ⟨p5, p6, p7⟩ := hP.s9
  have c9 : ¬ ep g 9 = 0 := by have := hP.2.2.2.1.2.2.1; omega
  obtain ⟨q1, q2, q3, q4⟩ := hP.en c9
  have hs : sR g 9 = rt g (ep g 9) 5 := by unfold sR; rw [if_neg c9]
  have hf : fR g 9 = rt g (ep g 9) 4 := by unfold fR; rw [if_neg c9]
  have h9 := hr.1 9 (by omega)
  rw [show ((9 : Nat) : Int) + 1 = 10 from rfl] at h9
  rw [em_X21_isName]; unfold dm_X21_isName
  rw [jlt_in (by omega) (by omega), Option.bind_some, h9]
  simp only [jls, jlet]
  rw [show R + 616 + 1 = R + 617 by omega]
  have k1 : jFx u (jp u 21 (R + 617) 1 0) (R + 617) 2 := jFx.rfl.jp rfl (by omega) (by omega)
  have N0 : ∀ p, cNm (jp u 21 (R + 617) 1 0) (R + 617) (dN g p 0) := fun p => ⟨by (repeat (first | rw [jf_neg (by omega)] | rw [jf_pos (by omega)] | rw [ou_neg (by omega)] | rw [ou_pos (by omega)])); rfl, fun i i0 i1 => absurd (show i < 0 from i1) (by omega)⟩
  have h1 := h.fx (k1.sub (by omega) (by omega))
  rw [g_size C h1 hd (by omega) q2, Option.bind_some, W32_in (by omega) (by omega), ← hs]
  simp only [L_cmp_lt]
  by_cases cx : x < sR g 9
  · rw [if_pos cx, g_from C h1 hd (by omega) q2, Option.bind_some, W32_in (z := rt g (ep g 9) 4) (by omega) (by omega), ← hf, l2i_in (by omega) (by omega), W32_in (by omega) (by omega)]
    generalize hp : fR g 9 + x = p at *
    obtain ⟨M, hM, hM2⟩ := nmL_ex (g := g) (p := p) (z := fR g 9 + sR g 9 - 1) (by omega) p7
    have hNL := nLn_of hM
    obtain ⟨M0, M1, M2⟩ := hM
    have by' : ∀ i, 0 ≤ i → i ≤ M → 0 ≤ g (p + i) ∧ g (p + i) < 256 := fun i i0 i1 => C.1.by _ (by omega) (by omega)
    rw [eu_X21_isName_45]; unfold du_X21_isName_45
    refine jE_W3 (I := fun w y0 y1 y2 => y0 = R ∧ jFx u w (R + 617) 2 ∧ (y2 = 1 ∧ (∃ i, 0 ≤ i ∧ i ≤ 16 ∧ i ≤ M ∧ y1 = p + i ∧ cNm w (R + 617) (dN g p i) ∧ ∀ j, 0 ≤ j → j < i → 33 ≤ g (p + j) ∧ g (p + j) ≤ 126) ∨ y2 = 0 ∧ ¬ nmG g p)) (m := fun w y0 y1 y2 => if y2 = 0 then 0 else 2 + p + M - y1) (fun w y0 y1 y2 ⟨ey, kw, hI⟩ => ?_) ⟨rfl, k1, .inl ⟨rfl, 0, by omega, by omega, M0, by omega, N0 p, fun j j0 j1 => by omega⟩⟩
    subst ey
    unfold b_X21_isName_45
    rcases hI with ⟨e2, i, i0, i1, i2, e1, hc, hg⟩ | ⟨e2, hno⟩
    · subst e2; subst e1
      have hw := h.fx (kw.sub (by omega) (by omega))
      have hb := by' i i0 i2
      rw [if_neg (by omega), g_u1 C hw.1 (by omega) (by omega)]
      by_cases c0 : g (p + i) = 0
      · have ei : i = M := by
          by_cases c : i = M
          · exact c
          · exact absurd c0 (M2 i i0 (by omega))
        subst ei
        rw [if_pos c0, eu_X21_isName_89]; unfold du_X21_isName_89
        rw [if_neg (by omega), show y0 + 616 + 1 = y0 + 617 by omega, hc.1, show dN g p i 5 = i from rfl]
        by_cases cm : 0 < i
        · rw [if_pos cm, Wz_1]
          exact jS_inr (jS_end ⟨kw, .inl ⟨cx, ⟨i, ⟨M0, M1, M2⟩, by omega, i1, hg⟩, rfl, by rw [hNL]; exact hc⟩⟩)
        · rw [if_neg cm, Wz_0]
          refine jS_inr (jS_end ⟨kw, .inr ⟨fun z => ?_, rfl⟩⟩)
          obtain ⟨m', hm, hm1, -⟩ := z.2
          have := nmL_one hm ⟨M0, M1, M2⟩
          omega
      · rw [if_neg c0, g_u1 C hw.1 (by omega) (by omega), show y0 + 616 + 1 = y0 + 617 by omega]
        have vd : vNm (dN g p i) := ⟨i0, i1, fun j j0 j1 => by
          have j1 : j < i := j1
          unfold dN; rw [if_neg (by omega), show p + (6 + j - 6) = p + j by omega]; exact hg j j0 j1⟩
        obtain ⟨d', hd', hadd⟩ := c_nadd (c := g (p + i)) hc vd
        refine jS_call hadd fun q ⟨a1, a2, a3, a4⟩ => ?_
        have hiM : i < M := by
          by_cases c : i = M
          · subst c; exact absurd M1 c0
          · omega
        rw [W32_in (by omega) (by omega)]
        rcases a4 with ⟨b1, b2, b3, b4, b5⟩ | ⟨b1, b2, b3⟩
        · rw [b5]
          have b2 : i < 16 := b2
          subst b1
          refine jS_end ⟨⟨rfl, kw.trans a1, .inl ⟨rfl, i + 1, by omega, by omega, by omega, by omega, a2.nx i0, fun j j0 j1 => ?_⟩⟩, ?_, ?_⟩
          · by_cases cj : j = i
            · subst cj; exact ⟨b3, b4⟩
            · exact hg j j0 (by omega)
          · rw [if_neg (by omega)]; omega
          · rw [if_neg (by omega), if_neg (by omega)]; omega
        · rw [b3]
          refine jS_end ⟨⟨rfl, kw.trans a1, .inr ⟨rfl, fun z => b2 ?_⟩⟩, ?_, ?_⟩
          · obtain ⟨m', hm, hm1, hm2, hm3⟩ := z
            have := nmL_one hm ⟨M0, M1, M2⟩
            subst this
            have := hm3 i i0 hiM
            exact ⟨by show i < 16; omega, this.1, this.2⟩
          · rw [if_neg (by omega)]; omega
          · rw [if_pos rfl, if_neg (by omega)]; omega
    · subst e2
      rw [if_pos rfl, eu_X21_isName_89]; unfold du_X21_isName_89
      rw [if_pos rfl, Wz_0]
      exact jS_inr (jS_end ⟨kw, .inr ⟨fun z => hno z.2, rfl⟩⟩)
  · rw [if_neg cx, Wz_0]
    exact jS_end ⟨k1, .inr ⟨fun z => cx z.1, rfl⟩⟩
/-- where a symbol is, by its number -/
theorem c_rwhere (hr : rN u R g) (hP : Pr g n) (y0 : 0 ≤ r2 g (ySy g x + 14)) : m_X21_where u R (r2 g (ySy g x + 14)) = some (if yWh g x = -2 then 6 else yWh g x) := by
  have hl : ∀ k : Nat, 0 ≤ ep g k ∧ ep g k ≤ 16 := fun k => by
    have := ep_lo hP.1 hP.2.2.1 k
    have := hP.1.2.2.2.2.1
    omega
  rw [em_X21_where]; unfold dm_X21_where
  unfold yWh
  generalize r2 g (ySy g x + 14) = v at *
  have l0 := hl 0
  have l1 := hl 1
  have l2 := hl 2
  have l3 := hl 3
  by_cases c0 : v = 0
  · rw [if_pos c0, if_pos c0, if_neg (by decide)]
  rw [if_neg c0, if_neg c0]
  by_cases c1 : 65520 < v
  · rw [if_pos c1]
    by_cases c2 : v = 65521
    · rw [if_pos c2, if_pos c2, if_neg (by decide)]
    rw [if_neg c2, if_neg c2]
    by_cases c3 : v = 65522
    · rw [if_pos c3, if_pos c3, if_neg (by decide)]
    · rw [if_neg c3, if_neg c3, if_neg (show ¬ ep g 0 = v by omega), if_neg (show ¬ ep g 1 = v by omega), if_neg (show ¬ ep g 2 = v by omega), if_neg (show ¬ ep g 3 = v by omega), if_pos rfl]
  · rw [if_neg c1, if_neg (show ¬ v = 65521 by omega), if_neg (show ¬ v = 65522 by omega), eu_X21_where_37]; unfold du_X21_where_37
    have st : ∀ k, 0 ≤ k → k < 4 → b_X21_where_37 u R v k = if ep g k.toNat = v then jinr (some k) else some (.inl [R, v, k + 1]) := fun k k0 k1 => by
      unfold b_X21_where_37
      have := hr.1 k.toNat (by omega)
      rw [nt k0] at this
      rw [if_pos k1, W32_in (z := k + 1) (by omega) (by omega), jlt_in (by omega) (by omega), Option.bind_some, this]
    have t0 : ((0 : Int)).toNat = 0 := rfl
    have t1 : ((1 : Int)).toNat = 1 := rfl
    have t2 : ((2 : Int)).toNat = 2 := rfl
    have t3 : ((3 : Int)).toNat = 3 := rfl
    rcases jseekR (C := jc3 b_X21_where_37) (s := u) (fun k => [R, v, k]) (fun k => ep g k.toNat = v) (fun k => some k) (some 6) 0 4 (by omega) (fun k k0 k1 hk => by
        show b_X21_where_37 u R v k = _
        rw [st k k0 k1, if_neg hk]) (fun k k0 k1 hk => by
        show b_X21_where_37 u R v k = _
        rw [st k k0 k1, if_pos hk]) (by
        show b_X21_where_37 u R v 4 = _
        unfold b_X21_where_37
        rw [if_neg (by omega)]) with ⟨k, k0, k1, k2, k3, e⟩ | ⟨k2, e⟩
    · rw [e]
      have : k = 0 ∨ k = 1 ∨ k = 2 ∨ k = 3 := by omega
      rcases this with rfl | rfl | rfl | rfl
      · rw [if_pos (show ep g 0 = v from k2), if_neg (by decide)]
      · rw [if_neg (show ¬ ep g 0 = v from k3 0 (by omega) (by omega)), if_pos (show ep g 1 = v from k2), if_neg (by decide)]
      · rw [if_neg (show ¬ ep g 0 = v from k3 0 (by omega) (by omega)), if_neg (show ¬ ep g 1 = v from k3 1 (by omega) (by omega)), if_pos (show ep g 2 = v from k2), if_neg (by decide)]
      · rw [if_neg (show ¬ ep g 0 = v from k3 0 (by omega) (by omega)), if_neg (show ¬ ep g 1 = v from k3 1 (by omega) (by omega)), if_neg (show ¬ ep g 2 = v from k3 2 (by omega) (by omega)), if_pos (show ep g 3 = v from k2), if_neg (by decide)]
    · rw [e, if_neg (show ¬ ep g 0 = v from k2 0 (by omega) (by omega)), if_neg (show ¬ ep g 1 = v from k2 1 (by omega) (by omega)), if_neg (show ¬ ep g 2 = v from k2 2 (by omega) (by omega)), if_neg (show ¬ ep g 3 = v from k2 3 (by omega) (by omega)), if_pos rfl]
/-- a symbol from the draft -/
theorem c_syset (h : cSy u z w) (v : vNm w) (tz : jTt u 36 z) (hd : y + 3 ≤ z ∨ z + 3 ≤ y) : jE (m_X16_set_2 u y z) fun q => jFx u q.1 y 3 ∧ cSy q.1 y w := by
  obtain ⟨z0, zk, z1, z2⟩ := T36 tz
  obtain ⟨h1, h2, h3, h4, h5, h6⟩ := h
  rw [em_X16_set_2]; unfold dm_X16_set_2
  rw [jrd_in z0 zk, Option.bind_some, jrd_in z0 zk, Option.bind_some, jrd_in z0 zk, Option.bind_some, jrd_in z0 zk, Option.bind_some, jrd_in z0 zk, Option.bind_some, h1, h2, h3, h4, h5, em_X16_set]; unfold dm_X16_set
  simp only [jls, Option.bind_some]
  have k1 : jFx u (jp (jp (jp (jp (jp u 20 y 1 (w 0)) 20 y 2 (w 1)) 20 y 3 (w 2)) 20 y 4 (w 3)) 20 y 5 (w 4)) y 1 := ((((jFx.rfl.jp rfl (by omega) (by omega)).jp rfl (by omega) (by omega)).jp rfl (by omega) (by omega)).jp rfl (by omega) (by omega)).jp rfl (by omega) (by omega)
  have f : jf (jp (jp (jp (jp (jp u 20 y 1 (w 0)) 20 y 2 (w 1)) 20 y 3 (w 2)) 20 y 4 (w 3)) 20 y 5 (w 4)) 20 y 1 = w 0 ∧ jf (jp (jp (jp (jp (jp u 20 y 1 (w 0)) 20 y 2 (w 1)) 20 y 3 (w 2)) 20 y 4 (w 3)) 20 y 5 (w 4)) 20 y 2 = w 1 ∧ jf (jp (jp (jp (jp (jp u 20 y 1 (w 0)) 20 y 2 (w 1)) 20 y 3 (w 2)) 20 y 4 (w 3)) 20 y 5 (w 4)) 20 y 3 = w 2 ∧ jf (jp (jp (jp (jp (jp u 20 y 1 (w 0)) 20 y 2 (w 1)) 20 y 3 (w 2)) 20 y 4 (w 3)) 20 y 5 (w 4)) 20 y 4 = w 3 ∧ jf (jp (jp (jp (jp (jp u 20 y 1 (w 0)) 20 y 2 (w 1)) 20 y 3 (w 2)) 20 y 4 (w 3)) 20 y 5 (w 4)) 20 y 5 = w 4 := by
    refine ⟨?_, ?_, ?_, ?_, ?_⟩ <;> (repeat (first | rw [jf_neg (by omega)] | rw [jf_pos (by omega)] | rw [ou_neg (by omega)] | rw [ou_pos (by omega)]))
  generalize jp (jp (jp (jp (jp u 20 y 1 (w 0)) 20 y 2 (w 1)) 20 y 3 (w 2)) 20 y 4 (w 3)) 20 y 5 (w 4) = t at k1 f
  rw [jrd_in z0 (by rw [k1.K]; exact zk), Option.bind_some, k1.F (by omega), z1]
  refine jS_call (c_nset (y := y + 1) (h6.keep fun c a i a0 a1 => k1.F (by omega) i) v (z2.ext k1.2) (by omega)) fun q ⟨q1, q2⟩ => jS_end ⟨(k1.wide (by omega) (by omega)).trans (q1.wide (by omega) (by omega)), ?_⟩
  refine ⟨?_, ?_, ?_, ?_, ?_, q2⟩ <;> rw [q1.F (by omega)]
  · exact f.1
  · exact f.2.1
  · exact f.2.2.1
  · exact f.2.2.2.1
  · exact f.2.2.2.2
/-- one symbol more -/
theorem c_syadd (h : cOb u b o) (v : vObN o) (h1 : o 2 1 0 < 100) (k : jFx u t ((b + 3) + 10 + 3 * o 2 1 0) 3) (hs : cSy t ((b + 3) + 10 + 3 * o 2 1 0) w) : jFx u (jp t 18 b 4 (o 2 1 0 + 1)) b 613 ∧ cOb (jp t 18 b 4 (o 2 1 0 + 1)) b (oSym o w) := by
  obtain ⟨hL, hA, hB, hN, hT, hY, hR⟩ := h
  obtain ⟨n1, n2, n3, n4, n5, n6⟩ := v
  have K : jFx u (jp t 18 b 4 (o 2 1 0 + 1)) b 613 := (k.wide (by omega) (by omega)).jp rfl (by omega) (by omega)
  have e : ∀ c a i, a < (b + 3) + 10 + 3 * o 2 1 0 ∨ (b + 3) + 10 + 3 * o 2 1 0 + 3 ≤ a → ¬ (c = 18 ∧ a = b ∧ i = 4) → jf (jp t 18 b 4 (o 2 1 0 + 1)) c a i = jf u c a i := fun c a i ha hn => by rw [jf_neg (by omega)]; exact k.F (by omega) i
  refine ⟨K, fun x x0 x1 => by rw [K.N]; exact hL x x0 x1, fun x x0 x1 => ?_, fun x i x0 x1 i0 i1 => ?_, ⟨?_, ?_, ?_⟩, fun i i0 i1 => ?_, fun i i0 i1 => ?_, fun i i0 i1 => ?_⟩
  · rw [e _ _ _ (by omega) (by omega), e _ _ _ (by omega) (by omega), oSym_o (by omega) (by omega)]; exact hA x x0 x1
  · rw [oSym_o (by omega) (by omega)] at i1
    rw [e _ _ _ (by omega) (by omega), oSym_o (by omega) (by omega)]; exact hB x i x0 x1 i0 i1
  · rw [e _ _ _ (by omega) (by omega), oSym_o (by omega) (by omega)]; exact hN.1
  · rw [jf_pos ⟨rfl, rfl, rfl⟩, oSym_n]
  · rw [e _ _ _ (by omega) (by omega), oSym_o (by omega) (by omega)]; exact hN.2.2
  · rw [oSym_o (by omega) (by omega)] at i1
    rw [e _ _ _ (by omega) (by omega), oSym_o (by omega) (by omega)]; exact hT i i0 i1
  · rw [oSym_n] at i1
    by_cases c : i = o 2 1 0
    · subst c
      rw [oSym_4]
      exact hs.keep fun c a j a0 a1 => by rw [jf_neg (by omega)]
    · rw [oSym_o (by omega) (by omega)]
      exact (hY i i0 (by omega)).keep fun c a j a0 a1 => e _ _ _ (by omega) (by omega)
  · rw [oSym_o (by omega) (by omega)] at i1 ⊢
    exact (hR i i0 i1).keep fun j => e _ _ _ (by omega) (by omega)
end jCread6
