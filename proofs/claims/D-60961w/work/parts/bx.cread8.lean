/-! the component reads a file: all symbols, relocations, starts -/
section jCread8
variable {s t u : jS} {B N R n p f a b x y z e k m : Int} {g g' : Int → Int} {o : Int → Int → Int → Int} {st sy rl : Int} {d w : Int → Int}
theorem cOK.mono {P Q : jS → Prop} {q : jS × Bool × Int} (h : cOK P q) (k : ∀ t, P t → Q t) : cOK Q q := ⟨h.1, k _ h.2⟩
/-- what comes next of a part that may throw -/
theorem nx_c {P : jS → Prop} {L : List (Prop × Int × Int)} {M : List (Prop × Int × Int)} {Q : jS × Bool × Int → Prop} {R' : Type} {Q1 : R' → Prop} {Q' : Int → Int → R' → Prop} {X : Option (jS × Bool × Int)} {F K : jS × Bool × Int → Option R'} (h : jE X (ckR (cOK P) (cBD s R) L)) (fin : ∀ q f p, cBD s R f p q → jE (F q) (Q' f p)) (ok : Gd L → ∀ t v, P t → jE (K (t, false, v)) (ckR Q1 Q' M)) : jE (X.bind fun q => jth q.2.1 (F q) (K q)) (ckR Q1 Q' (L ++ M)) := by
  obtain ⟨q, eq, hq⟩ := h
  rw [eq, Option.bind_some]
  obtain ⟨t, b, v⟩ := q
  rcases hq with ⟨hg, q1, q2⟩ | ⟨f, p, hf, hb⟩
  · have q1 : b = false := q1
    subst q1
    exact jk_app hg (ok hg t v q2)
  · have := hb.1
    have : b = true := this
    subst this
    exact jk_bad hf (fin _ f p hb)
theorem c_rsyms (C : rC s R B g n) (h : rO s u R B g n 0 0 0) (hP : Pr g n) : jE (m_X21_symbols u R) (ckR (cOK fun t => rO s t R B g n 0 (nSy g - 1) 0) (cBD s R) (Lsyms g)) := by
  have hn := C.1.2.1
  have hd := hP.1
  obtain ⟨hH, hr, hO, hV⟩ := id h
  obtain ⟨n1, n2, n3⟩ := nSy_lo hP
  obtain ⟨p1, p2, p3, p4, -⟩ := hP.part (k := 8) (by omega)
  have c8 : ¬ ep g 8 = 0 := by have := hP.2.2.2.1.2.1; omega
  obtain ⟨q1, q2, q3, q4⟩ := hP.en c8
  have hs : sR g 8 = rt g (ep g 8) 5 := by unfold sR; rw [if_neg c8]
  have hf : fR g 8 = rt g (ep g 8) 4 := by unfold fR; rw [if_neg c8]
  have h8 := hr.1 8 (by omega)
  rw [show ((8 : Nat) : Int) + 1 = 9 from rfl] at h8
  have F : ∀ {w}, rH s w R B g n → m_X21_from w R (ep g 8) = some (fR g 8) := fun hw => by
    rw [g_from C hw hd (by omega) q2, ← hf, W32_in (by omega) (by omega)]
  have Z : ∀ {w}, rH s w R B g n → m_X21_sizeOf w R (ep g 8) = some (sR g 8) := fun hw => by
    rw [g_size C hw hd (by omega) q2, ← hs, W32_in (by omega) (by omega)]
  unfold Lsyms
  rw [em_X21_symbols]; unfold dm_X21_symbols
  rw [jlt_in (by omega) (by omega), Option.bind_some, h8, eu_X21_symbols_10]; unfold du_X21_symbols_10
  refine jk_for (fun k => [(g (fR g 8 + k) = 0, 21, fR g 8 + k)]) (fun _ w => w = u) (fun k => [R, ep g 8, k]) 0 16 (by omega) rfl (fun k w k0 k1 _ ew => ?_) fun w ew _ => ?_
  · subst ew
    show jE (b_X21_symbols_10 w R (ep g 8) k) _
    unfold b_X21_symbols_10
    rw [if_pos k1, F hH, Option.bind_some, W32_in (by omega) (by omega), g_u1 C hH.1 (by omega) (by omega)]
    refine nd_if C hH.1.1 (by rw [eu_X21_symbols_39]; unfold du_X21_symbols_39; rw [F hH, Option.bind_some, W32_in (z := fR g 8 + k) (by omega) (by omega)]) (by rw [eu_X21_symbols_39]; unfold du_X21_symbols_39; rw [F hH, Option.bind_some, W32_in (z := fR g 8 + k) (by omega) (by omega)]) Iff.rfl (fun q hq => hq.inr) fun _ => jk_end ?_
    dsimp only
    rw [W32_in (by omega) (by omega)]
    exact jS_end ⟨w, rfl, rfl⟩
  subst ew
  show jE (b_X21_symbols_10 w R (ep g 8) 16) _
  unfold b_X21_symbols_10
  rw [if_neg (by omega), eu_X21_symbols_57]; unfold du_X21_symbols_57
  rw [eu_X21_symbols_60]; unfold du_X21_symbols_60
  refine jS_inr (jE_mono (?_ : jE _ (ckR (cOK fun t => rO s t R B g n 0 (nSy g - 1) 0) (cBD s R) _)) fun r hr => ⟨r, rfl, hr⟩)
  refine jk_for (Lsym g) (fun x t => rO s t R B g n 0 (x - 1) 0) (fun x => [R, ep g 8, 16 * x]) 1 (nSy g) n1 h (fun x t x0 x1 hG ht => ?_) fun t ht _ => ?_
  · show jE (b_X21_symbols_60 t R (ep g 8) (16 * x)) _
    unfold b_X21_symbols_60
    rw [Z ht.1, Option.bind_some, if_pos (by omega), F ht.1, Option.bind_some, W32_in (z := fR g 8 + 16 * x) (by omega) (by omega), show fR g 8 + 16 * x = ySy g x from rfl]
    have := nx_c (Q := fun _ => True) (M := []) (Q1 := fun x' => ∃ t, x' = .inl (t, [R, ep g 8, 16 * (x + 1)]) ∧ rO s t R B g n 0 (x + 1 - 1) 0) (Q' := fun f p x => ∃ r, x = .inr r ∧ cBD s R f p r) (F := fun q => jinr (some (q.1, true, q.2.2))) (K := fun q => some (.inl (q.1, [R, ep g 8, W32 (16 * x + 16)]))) (c_rsym C ht hP x0 x1 hG) (fun q f p hq => hq.inr) fun _ t v hp => jk_end (by
        rw [W32_in (by omega) (by omega), show 16 * x + 16 = 16 * (x + 1) by omega]
        exact jS_end ⟨t, rfl, by rw [show x + 1 - 1 = x by omega]; exact hp⟩)
    rw [List.append_nil] at this
    exact this
  · show jE (b_X21_symbols_60 t R (ep g 8) (16 * nSy g)) _
    unfold b_X21_symbols_60
    rw [Z ht.1, Option.bind_some, if_neg (by omega), eu_X21_symbols_86]; unfold du_X21_symbols_86
    refine jS_inr (jE_mono (?_ : jE _ (ckR (cOK fun t => rO s t R B g n 0 (nSy g - 1) 0) (cBD s R) _)) fun r hr => ⟨r, rfl, hr⟩)
    have hl := nLc_lo ht.2.2.2
    have eL : nLc (oP g 0 (nSy g - 1) 0) = cn (fun x => decide (yHw g (x + 1) = 0)) (nSy g - 1) := rfl
    rw [g_told C ht.1 hd (by omega) q2 (by omega) (by omega), Option.bind_some, c_locals ht.2.2.1 ht.2.2.2, Option.bind_some, eL]
    rw [eL] at hl
    rw [W64_in (by omega) (by omega)]
    refine nd_if C ht.1.1.1 (by rw [eu_X21_symbols_113]; unfold du_X21_symbols_113; rw [g_field ht.1 hd hn (by omega) q2 (by omega) (by omega), Option.bind_some]) (by rw [eu_X21_symbols_113]; unfold du_X21_symbols_113; rw [g_field ht.1 hd hn (by omega) q2 (by omega) (by omega), Option.bind_some]) (L_cmp_0 _ _) (fun q hq => hq.end) fun _ => jk_end ?_
    dsimp only
    exact jS_end ⟨rfl, ht⟩
/-- one relocation more -/
theorem c_rladd (h : cOb u b o) (v : vObN o) (h1 : o 2 2 0 < 300) (k : jFx u t ((b + 4) + 309 + 1 * o 2 2 0) 1) (hs : cRl t ((b + 4) + 309 + 1 * o 2 2 0) w) : jFx u (jp t 18 b 6 (o 2 2 0 + 1)) b 613 ∧ cOb (jp t 18 b 6 (o 2 2 0 + 1)) b (oRel o w) := by
  obtain ⟨hL, hA, hB, hN, hT, hY, hR⟩ := h
  obtain ⟨n1, n2, n3, n4, n5, n6⟩ := v
  have K : jFx u (jp t 18 b 6 (o 2 2 0 + 1)) b 613 := (k.wide (by omega) (by omega)).jp rfl (by omega) (by omega)
  have e : ∀ c a i, a < (b + 4) + 309 + 1 * o 2 2 0 ∨ (b + 4) + 309 + 1 * o 2 2 0 + 1 ≤ a → ¬ (c = 18 ∧ a = b ∧ i = 6) → jf (jp t 18 b 6 (o 2 2 0 + 1)) c a i = jf u c a i := fun c a i ha hn => by rw [jf_neg (by omega)]; exact k.F (by omega) i
  refine ⟨K, fun x x0 x1 => by rw [K.N]; exact hL x x0 x1, fun x x0 x1 => ?_, fun x i x0 x1 i0 i1 => ?_, ⟨?_, ?_, ?_⟩, fun i i0 i1 => ?_, fun i i0 i1 => ?_, fun i i0 i1 => ?_⟩
  · rw [e _ _ _ (by omega) (by omega), e _ _ _ (by omega) (by omega), oRel_o (by omega) (by omega)]; exact hA x x0 x1
  · rw [oRel_o (by omega) (by omega)] at i1
    rw [e _ _ _ (by omega) (by omega), oRel_o (by omega) (by omega)]; exact hB x i x0 x1 i0 i1
  · rw [e _ _ _ (by omega) (by omega), oRel_o (by omega) (by omega)]; exact hN.1
  · rw [e _ _ _ (by omega) (by omega), oRel_o (by omega) (by omega)]; exact hN.2.1
  · rw [jf_pos ⟨rfl, rfl, rfl⟩, oRel_n]
  · rw [oRel_o (by omega) (by omega)] at i1
    rw [e _ _ _ (by omega) (by omega), oRel_o (by omega) (by omega)]; exact hT i i0 i1
  · rw [oRel_o (by omega) (by omega)] at i1 ⊢
    exact (hY i i0 i1).keep fun c a j a0 a1 => e _ _ _ (by omega) (by omega)
  · rw [oRel_n] at i1
    by_cases c : i = o 2 2 0
    · subst c
      rw [oRel_5]
      exact hs.keep fun j => by rw [jf_neg (by omega)]
    · rw [oRel_o (by omega) (by omega)]
      exact (hR i i0 (by omega)).keep fun j => e _ _ j (by omega) (by omega)
theorem kW_a {k a a' : Int} (h : k = 43 → a = a') : kW k a = kW k a' := by
  unfold kW
  by_cases c : k = 43
  · rw [if_pos c, if_pos c]; exact h c
  · rw [if_neg c, if_neg c]
theorem bRl_lo (h : Pr g n) {s : Int} (s0 : 0 ≤ s) (s1 : s < 3) : 0 ≤ bRl g s ∧ bRl g s + sR g (5 + s.toNat) / 12 = bRl g (s + 1) ∧ bRl g (s + 1) ≤ 300 := by
  have h5 := (h.part (k := 5) (by omega)).2.1
  have h6 := (h.part (k := 6) (by omega)).2.1
  have h7 := (h.part (k := 7) (by omega)).2.1
  have m5 := h.mv (k := 5) (by omega) (by omega)
  have m6 := h.mv (k := 6) (by omega) (by omega)
  have m7 := h.mv (k := 7) (by omega) (by omega)
  have hm := h.mvs
  have : s = 0 ∨ s = 1 ∨ s = 2 := by omega
  have b0 : bRl g 0 = 0 := rfl
  have b1 : bRl g 1 = sR g 5 / 12 := rfl
  have b2 : bRl g 2 = sR g 5 / 12 + sR g 6 / 12 := rfl
  have b3 : bRl g 3 = sR g 5 / 12 + sR g 6 / 12 + sR g 7 / 12 := rfl
  rcases this with rfl | rfl | rfl
  · refine ⟨by omega, ?_, ?_⟩
    · show 0 + sR g 5 / 12 = bRl g 1; omega
    · show bRl g 1 ≤ 300; omega
  · refine ⟨by omega, ?_, ?_⟩
    · show bRl g 1 + sR g 6 / 12 = bRl g 2; omega
    · show bRl g 2 ≤ 300; omega
  · refine ⟨by omega, ?_, ?_⟩
    · show bRl g 2 + sR g 7 / 12 = bRl g 3; omega
    · show bRl g 3 ≤ 300; omega
theorem c_rmove {S x : Int} (C : rC s R B g n) (S0 : 0 ≤ S) (S1 : S < 3) (h : rO s u R B g n 0 (nSy g - 1) (bRl g S + x)) (hP : Pr g n) (x0 : 0 ≤ x) (x1 : x < sR g (5 + S.toNat) / 12) : jE (m_X21_move u R S (fR g (5 + S.toNat) + 12 * x)) (ckR (cOK fun t => rO s t R B g n 0 (nSy g - 1) (bRl g S + (x + 1))) (cBD s R) (Lmv g S.toNat x)) := by
  have hn := C.1.2.1
  obtain ⟨hH, hr, hO, hV⟩ := h
  obtain ⟨n1, n2, n3⟩ := nSy_lo hP
  obtain ⟨p1, p2, p3, p4, -⟩ := hP.part (k := 5 + S.toNat) (by omega)
  obtain ⟨b1, b2, b3⟩ := bRl_lo hP S0 S1
  obtain ⟨o1, o2⟩ := sOf_b hP S0 S1 x0 x1
  have hb := hP.2.2.2.2.2.1
  obtain ⟨-, tB, tD⟩ := T41 C.2.2.2
  have hsec := hP.sec (k := S.toNat) (by omega)
  have hsec0 := (hP.part (k := S.toNat) (by omega)).2.1
  unfold Lmv
  rw [← o2]
  have hp : 52 ≤ pOf g (bRl g S + x) ∧ pOf g (bRl g S + x) + 12 ≤ n := by rw [o2]; omega
  generalize hq : bRl g S + x = q at *
  have v0 := r4_lo hb (p := pOf g q) (by omega) (by omega)
  have v4 := r4_lo hb (p := pOf g q + 4) (by omega) (by omega)
  have v8 := r4_lo hb (p := pOf g q + 8) (by omega) (by omega)
  have bk := hb (pOf g q + 4) (by omega) (by omega)
  rw [em_X21_move]; unfold dm_X21_move
  rw [W32_in (z := pOf g q + 4) (by omega) (by omega), g_u1 C hH.1 (by omega) (by omega), g_u4 C hH.1 (by omega) (by omega)]
  simp only [jlet]
  have es : L_shr (r4 g (pOf g q + 4)) 8 = r4 g (pOf g q + 4) / 256 := l_shr_p (by omega) (by omega) (by omega)
  rw [es, e_X51_is, Option.bind_some]
  have eS : ((S.toNat : Nat) : Int) = S := by omega
  rw [eS]
  have hk : (¬ v_X51_width (g (pOf g q + 4)) 0 < 0 ∧ (S = 0 ∨ g (pOf g q + 4) = 1 ∨ (¬ g (pOf g q + 4) < 33 ∧ ¬ 39 < g (pOf g q + 4)))) ↔ kSec (g (pOf g q + 4)) S := by
    obtain ⟨w1, w2⟩ := wd_ok (k := g (pOf g q + 4)) (a := 0)
    unfold kSec
    constructor
    · rintro ⟨a1, a2⟩
      exact ⟨Classical.byContradiction fun z => a1 (by rw [w2 z]; decide), by omega⟩
    · rintro ⟨a1, a2⟩
      rw [w1 a1]
      have := kW_lo (a := 0) a1 (by omega)
      exact ⟨by omega, by omega⟩
  refine nd_x C hH.1.1 (by split <;> omega) (by
    by_cases c : (¬ v_X51_width (g (pOf g q + 4)) 0 < 0 ∧ (S = 0 ∨ g (pOf g q + 4) = 1 ∨ (¬ g (pOf g q + 4) < 33 ∧ ¬ 39 < g (pOf g q + 4))))
    · rw [if_pos c]; exact ⟨fun _ => hk.mp c, fun _ => rfl⟩
    · rw [if_neg c]; exact ⟨fun z => absurd z (by decide), fun z => absurd (hk.mpr z) c⟩) (fun q hq => hq.end) fun c29 => ?_
  dsimp only
  have hcnt : jf u 18 (R + 3) 4 = nSy g - 1 := hO.2.2.2.1.2.1
  have hrc : jf u 18 (R + 3) 6 = q := hO.2.2.2.1.2.2
  have e30 : (if 0 < L_cmp (r4 g (pOf g q + 4) / 256) (jf u 18 (R + 3) 4) then u_X21_move_78 u R S (pOf g q) (g (pOf g q + 4)) (r4 g (pOf g q + 4) / 256) R else if L_cmp (r4 g (pOf g q + 4) / 256) 0 = 0 then u_X21_move_67 u R S (pOf g q) (g (pOf g q + 4)) (r4 g (pOf g q + 4) / 256) 1 R else u_X21_move_67 u R S (pOf g q) (g (pOf g q + 4)) (r4 g (pOf g q + 4) / 256) 0 R) = if r4 g (pOf g q + 4) / 256 < nSy g ∧ (r4 g (pOf g q + 4) / 256 = 0 ↔ (g (pOf g q + 4) = 43 ∨ g (pOf g q + 4) = 51)) then u_X21_move_79 u R S (pOf g q) (g (pOf g q + 4)) (r4 g (pOf g q + 4) / 256) 1 R else u_X21_move_79 u R S (pOf g q) (g (pOf g q + 4)) (r4 g (pOf g q + 4) / 256) 0 R := by
    have e78 : u_X21_move_78 u R S (pOf g q) (g (pOf g q + 4)) (r4 g (pOf g q + 4) / 256) R = u_X21_move_79 u R S (pOf g q) (g (pOf g q + 4)) (r4 g (pOf g q + 4) / 256) 0 R := by rw [eu_X21_move_78]; rfl
    simp only [eu_X21_move_67, du_X21_move_67, e78, e_X51_isPlain, Option.bind_some, L_cmp_0, L_cmp_gt, hcnt]
    by_cases c1 : nSy g - 1 < r4 g (pOf g q + 4) / 256
    · rw [if_pos c1, if_neg (by omega)]
    · rw [if_neg c1]
      by_cases c2 : r4 g (pOf g q + 4) / 256 = 0 <;> by_cases c3 : g (pOf g q + 4) = 43 ∨ g (pOf g q + 4) = 51
      · rw [if_pos c2, if_pos c3, if_pos rfl, if_pos ⟨by omega, fun _ => c3, fun _ => c2⟩]
      · rw [if_pos c2, if_neg c3, if_neg (by decide), if_neg (fun z => c3 (z.2.mp c2))]
      · rw [if_neg c2, if_pos c3, if_neg (by decide), if_neg (fun z => c2 (z.2.mpr c3))]
      · rw [if_neg c2, if_neg c3, if_pos rfl, if_pos ⟨by omega, fun z => absurd z c2, fun z => absurd z c3⟩]
  rw [e30]
  refine nd_if C hH.1.1 (by rw [eu_X21_move_79]; unfold du_X21_move_79; rw [W32_in (z := pOf g q + 4) (by omega) (by omega)]) (by rw [eu_X21_move_79]; unfold du_X21_move_79; rw [W32_in (z := pOf g q + 4) (by omega) (by omega)]) Iff.rfl (fun q hq => hq.end) fun c30 => ?_
  dsimp only
  rw [W32_in (z := pOf g q + 8) (by omega) (by omega), g_s4 C hH.1 (by omega) (by omega), e_X51_isAddend, Option.bind_some]
  have w8 : W32 (r4 g (pOf g q + 8)) = if r4 g (pOf g q + 8) < 2147483648 then r4 g (pOf g q + 8) else r4 g (pOf g q + 8) - 4294967296 := by
    have := W32_mod (r4 g (pOf g q + 8))
    have := W32_lo (r4 g (pOf g q + 8))
    split <;> omega
  have hlo := W32_lo (r4 g (pOf g q + 8))
  have h31 : (¬ g (pOf g q + 4) = 43 ∨ ((¬ W32 (r4 g (pOf g q + 8)) < 0 ∧ ¬ 62 < W32 (r4 g (pOf g q + 8))) ∧ I_rem (W32 (r4 g (pOf g q + 8))) 2 = 0)) ↔ (g (pOf g q + 4) = 43 → r4 g (pOf g q + 8) ≤ 62 ∧ r4 g (pOf g q + 8) % 2 = 0) := by
    rw [I_rem_0 hlo (by omega) (by omega)]
    by_cases c : g (pOf g q + 4) = 43
    · constructor
      · rintro (z | ⟨z1, z2⟩)
        · exact absurd c z
        · rw [w8] at z1 z2
          by_cases cc : r4 g (pOf g q + 8) < 2147483648
          · rw [if_pos cc] at z1 z2; exact fun _ => by omega
          · rw [if_neg cc] at z1; omega
      · intro z
        have := z c
        rw [w8, if_pos (by omega)]
        exact .inr ⟨by omega, by omega⟩
    · exact ⟨fun _ z => absurd z c, fun _ => .inl c⟩
  refine nd_x C hH.1.1 (by split <;> omega) (by
    by_cases c : (¬ g (pOf g q + 4) = 43 ∨ ((¬ W32 (r4 g (pOf g q + 8)) < 0 ∧ ¬ 62 < W32 (r4 g (pOf g q + 8))) ∧ I_rem (W32 (r4 g (pOf g q + 8))) 2 = 0))
    · rw [if_pos c]; exact ⟨fun _ => h31.mp c, fun _ => rfl⟩
    · rw [if_neg c]; exact ⟨fun z => absurd z (by decide), fun z => absurd (h31.mpr z) c⟩) (fun q hq => hq.end) fun c31 => ?_
  dsimp only
  rw [hrc, jix_in (by omega) (by omega), Option.bind_some, g_s4 C hH.1 (by omega) (by omega), l2i_in (by omega) (by omega), W32_in (z := r4 g (pOf g q + 4) / 256 - 1) (by omega) (by omega), em_X18_set]; unfold dm_X18_set
  simp only [jls, Option.bind_some]
  have k2 : jFx u (jp (jp (jp (jp (jp u 22 (R + 3 + 4 + 309 + 1 * q) 0 S) 22 (R + 3 + 4 + 309 + 1 * q) 1 (W32 (r4 g (pOf g q)))) 22 (R + 3 + 4 + 309 + 1 * q) 2 (g (pOf g q + 4))) 22 (R + 3 + 4 + 309 + 1 * q) 3 (r4 g (pOf g q + 4) / 256 - 1)) 22 (R + 3 + 4 + 309 + 1 * q) 4 (W32 (r4 g (pOf g q + 8)))) (R + 3 + 4 + 309 + 1 * q) 1 := ((((jFx.rfl.jp rfl (by omega) (by omega)).jp rfl (by omega) (by omega)).jp rfl (by omega) (by omega)).jp rfl (by omega) (by omega)).jp rfl (by omega) (by omega)
  have fs : cRl (jp (jp (jp (jp (jp u 22 (R + 3 + 4 + 309 + 1 * q) 0 S) 22 (R + 3 + 4 + 309 + 1 * q) 1 (W32 (r4 g (pOf g q)))) 22 (R + 3 + 4 + 309 + 1 * q) 2 (g (pOf g q + 4))) 22 (R + 3 + 4 + 309 + 1 * q) 3 (r4 g (pOf g q + 4) / 256 - 1)) 22 (R + 3 + 4 + 309 + 1 * q) 4 (W32 (r4 g (pOf g q + 8)))) (R + 3 + 4 + 309 + 1 * q) (mRw g S (pOf g q)) := by
    refine ⟨?_, ?_, ?_, ?_, ?_⟩ <;> (repeat (first | rw [jf_neg (by omega)] | rw [jf_pos (by omega)] | rw [ou_neg (by omega)] | rw [ou_pos (by omega)])) <;> rfl
  generalize jp (jp (jp (jp (jp u 22 (R + 3 + 4 + 309 + 1 * q) 0 S) 22 (R + 3 + 4 + 309 + 1 * q) 1 (W32 (r4 g (pOf g q)))) 22 (R + 3 + 4 + 309 + 1 * q) 2 (g (pOf g q + 4))) 22 (R + 3 + 4 + 309 + 1 * q) 3 (r4 g (pOf g q + 4) / 256 - 1)) 22 (R + 3 + 4 + 309 + 1 * q) 4 (W32 (r4 g (pOf g q + 8))) = t at k2 fs ⊢
  have H2 := hH.fx (k2.sub (by omega) (by omega))
  have hr2 : rN t R g := hr.fx (k2.wide (by omega) (by omega))
  have hroom : m_X14_room t (R + 3) S = some (sR g S.toNat) := by
    rw [e_X14_room _ _ _ ⟨S0, by omega⟩, k2.F (by omega), (hO.2.1 S S0 (by omega)).1]; rfl
  have f1 : jf t 22 (R + 3 + 4 + 309 + 1 * q) 1 = W32 (r4 g (pOf g q)) := fs.2.1
  have f2 : jf t 22 (R + 3 + 4 + 309 + 1 * q) 2 = g (pOf g q + 4) := fs.2.2.1
  have f4 : jf t 22 (R + 3 + 4 + 309 + 1 * q) 4 = W32 (r4 g (pOf g q + 8)) := fs.2.2.2.2
  have hkW := (wd_ok (k := g (pOf g q + 4)) (a := W32 (r4 g (pOf g q + 8)))).1 c29.1
  have h43 : g (pOf g q + 4) = 43 → W32 (r4 g (pOf g q + 8)) = r4 g (pOf g q + 8) := fun z => by rw [w8, if_pos (by have := c31 z; omega)]
  have hkA := kW_a (k := g (pOf g q + 4)) h43
  have hkh := kW_hi (k := g (pOf g q + 4)) (a := r4 g (pOf g q + 8)) (fun z => by have := c31 z; omega)
  have w0 : W32 (r4 g (pOf g q)) = if r4 g (pOf g q) < 2147483648 then r4 g (pOf g q) else r4 g (pOf g q) - 4294967296 := by
    have := W32_mod (r4 g (pOf g q))
    have := W32_lo (r4 g (pOf g q))
    split <;> omega
  have hlo0 := W32_lo (r4 g (pOf g q))
  rw [hroom, Option.bind_some, e_X18_isWithin, Option.bind_some, f1, f2, f4, hkW, hkA, W64_in (by omega) (by omega)]
  have h32 : (¬ W32 (r4 g (pOf g q)) < 0 ∧ ¬ sR g S.toNat < W32 (r4 g (pOf g q)) + kW (g (pOf g q + 4)) (r4 g (pOf g q + 8))) ↔ r4 g (pOf g q) + kW (g (pOf g q + 4)) (r4 g (pOf g q + 8)) ≤ sR g S.toNat := by
    rw [w0]
    by_cases cc : r4 g (pOf g q) < 2147483648
    · rw [if_pos cc]; omega
    · rw [if_neg cc]; omega
  refine nd_x C H2.1.1 (by split <;> omega) (by
    by_cases c : (¬ W32 (r4 g (pOf g q)) < 0 ∧ ¬ sR g S.toNat < W32 (r4 g (pOf g q)) + kW (g (pOf g q + 4)) (r4 g (pOf g q + 8)))
    · rw [if_pos c]; exact ⟨fun _ => h32.mp c, fun _ => rfl⟩
    · rw [if_neg c]; exact ⟨fun z => absurd z (by decide), fun z => absurd (h32.mpr z) c⟩) (fun q hq => hq.end) fun c32 => jk_end ?_
  dsimp only
  rw [k2.F (by omega), hrc, W32_in (by omega) (by omega)]
  have e1 : oP g 0 (nSy g - 1) q 2 2 0 = q := rfl
  obtain ⟨w1, w2⟩ := c_rladd (w := mRw g S (pOf g q)) hO hV.2.2.1 (by rw [e1]; omega) (by rw [e1]; exact k2) (by rw [e1]; exact fs)
  have eR : oRel (oP g 0 (nSy g - 1) q) (mRw g S (pOf g q)) = oP g 0 (nSy g - 1) (q + 1) := by
    have := oP_rel (g := g) (st := 0) (sy := nSy g - 1) (rl := q)
    rw [o1] at this
    exact this
  have vw : vRl (nSy g - 1) (mRw g S (pOf g q)) := by
    refine ⟨S0, by show S ≤ 2; omega, ?_, ?_, c29.1, ?_, ?_, hlo, fun z => ?_⟩
    · show 0 ≤ W32 (r4 g (pOf g q))
      rw [w0, if_pos (by omega)]; omega
    · show W32 (r4 g (pOf g q)) ≤ _
      omega
    · show -1 ≤ r4 g (pOf g q + 4) / 256 - 1
      omega
    · show r4 g (pOf g q + 4) / 256 - 1 < _
      omega
    · have z : g (pOf g q + 4) = 43 := z
      have := c31 z
      show 0 ≤ W32 (r4 g (pOf g q + 8)) ∧ W32 (r4 g (pOf g q + 8)) ≤ 62
      rw [h43 z]; omega
  have vR := vRel hV (by rw [e1]; omega) (w := mRw g S (pOf g q)) vw
  rw [eR] at w2 vR
  rw [e1] at w1 w2
  rw [show bRl g S + (x + 1) = q + 1 by omega]
  exact jS_end ⟨rfl, hH.fx (w1.sub (by omega) (by omega)), hr.fx (w1.wide (by omega) (by omega)), w2, vR⟩
end jCread8
