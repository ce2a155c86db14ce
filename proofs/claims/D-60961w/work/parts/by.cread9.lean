/-! the component reads a file: all of it; objects are copied -/
section jCread9
variable {s t u : jS} {B N R n p f a b b' x y z e k m : Int} {g g' : Int → Int} {o : Int → Int → Int → Int} {st sy rl : Int} {d w : Int → Int}
theorem c_rmoves (C : rC s R B g n) (h : rO s u R B g n 0 (nSy g - 1) 0) (hP : Pr g n) : jE (m_X21_moves u R) (ckR (cOK fun t => rO s t R B g n 0 (nSy g - 1) (bRl g 3)) (cBD s R) (Lmvs g)) := by
  have hn := C.1.2.1
  have hd := hP.1
  unfold Lmvs
  rw [em_X21_moves]; unfold dm_X21_moves
  rw [eu_X21_moves_2]; unfold du_X21_moves_2
  refine jk_for (fun S => ckF (Lmv g S.toNat) 0 (sR g (5 + S.toNat) / 12)) (fun S t => rO s t R B g n 0 (nSy g - 1) (bRl g S)) (fun S => [R, S]) 0 3 (by omega) h (fun S t S0 S1 _ ht => ?_) fun t ht _ => ?_
  · show jE (b_X21_moves_2 t R S) _
    unfold b_X21_moves_2
    have hA := ht.2.1.1 (5 + S.toNat) (by omega)
    rw [show ((5 + S.toNat : Nat) : Int) + 1 = 6 + S by omega] at hA
    obtain ⟨p1, p2, p3, p4, p5⟩ := hP.part (k := 5 + S.toNat) (by omega)
    have hmod := hP.mv (k := 5 + S.toNat) (by omega) (by omega)
    obtain ⟨b1, b2, b3⟩ := bRl_lo hP S0 S1
    rw [if_pos S1, W32_in (z := 6 + S) (by omega) (by omega), jlt_in (by omega) (by omega), Option.bind_some, hA, eu_X21_moves_19]; unfold du_X21_moves_19
    have e50 : ∀ w, u_X21_moves_50 w R S = some (.inl (w, [R, S + 1])) := fun w => by
      rw [eu_X21_moves_50]; unfold du_X21_moves_50
      rw [W32_in (by omega) (by omega)]
    rw [← List.append_nil (ckF (Lmv g S.toNat) 0 (sR g (5 + S.toNat) / 12))]
    refine jk_for (Lmv g S.toNat) (fun x w => rO s w R B g n 0 (nSy g - 1) (bRl g S + x)) (fun x => [R, S, ep g (5 + S.toNat), 12 * x]) 0 (sR g (5 + S.toNat) / 12) (by omega) (by rw [Int.add_zero]; exact ht) (fun x w x0 x1 _ hw => ?_) fun w hw _ => ?_
    · show jE (b_X21_moves_19 w R S (ep g (5 + S.toNat)) (12 * x)) _
      unfold b_X21_moves_19
      have c : ¬ ep g (5 + S.toNat) = 0 := fun z => by have := p5 z; omega
      obtain ⟨q1, q2, q3, q4⟩ := hP.en c
      have hs : sR g (5 + S.toNat) = rt g (ep g (5 + S.toNat)) 5 := by unfold sR; rw [if_neg c]
      have hf : fR g (5 + S.toNat) = rt g (ep g (5 + S.toNat)) 4 := by unfold fR; rw [if_neg c]
      rw [if_pos (by omega), g_size C hw.1 hd (by omega) q2, Option.bind_some, ← hs, W32_in (by omega) (by omega), if_pos (by omega), g_from C hw.1 hd (by omega) q2, Option.bind_some, ← hf, W32_in (z := fR g (5 + S.toNat)) (by omega) (by omega), W32_in (z := fR g (5 + S.toNat) + 12 * x) (by omega) (by omega)]
      rw [← List.append_nil (Lmv g S.toNat x)]
      refine nx_c (Q := fun _ => True) (c_rmove C S0 S1 hw hP x0 x1) (fun q f p hq => jS_inr (jE_mono hq.inr fun r hr => ⟨r, rfl, hr⟩)) fun _ t v hp => jk_end ?_
      dsimp only
      rw [W32_in (by omega) (by omega), show 12 * x + 12 = 12 * (x + 1) by omega]
      exact jS_end ⟨t, rfl, hp⟩
    · show jE (b_X21_moves_19 w R S (ep g (5 + S.toNat)) (12 * (sR g (5 + S.toNat) / 12))) _
      unfold b_X21_moves_19
      have hl := ep_lo hd hP.2.2.1 (5 + S.toNat)
      have hw' : rO s w R B g n 0 (nSy g - 1) (bRl g (S + 1)) := by rw [← b2]; exact hw
      by_cases c : 0 < ep g (5 + S.toNat)
      · obtain ⟨q1, q2, q3, q4⟩ := hP.en (k := 5 + S.toNat) (by omega)
        have hs : sR g (5 + S.toNat) = rt g (ep g (5 + S.toNat)) 5 := by unfold sR; rw [if_neg (by omega)]
        rw [if_pos c, g_size C hw.1 hd (by omega) q2, Option.bind_some, ← hs, W32_in (by omega) (by omega), if_neg (by omega), e50]
        exact jS_inr (jS_end ⟨_, rfl, ck_end ⟨w, rfl, hw'⟩⟩)
      · rw [if_neg c, e50]
        exact jS_inr (jS_end ⟨_, rfl, ck_end ⟨w, rfl, hw'⟩⟩)
  · show jE (b_X21_moves_2 t R 3) _
    unfold b_X21_moves_2
    rw [if_neg (by omega)]
    exact jS_inr (jS_end ⟨_, rfl, ck_end ⟨rfl, ht⟩⟩)
theorem c_rstarts (C : rC s R B g n) (h : rO s u R B g n 0 (nSy g - 1) (bRl g 3)) (hP : Pr g n) : jE (m_X21_starts u R) (ckR (cOK fun t => rO s t R B g n (sR g 4 / 2) (nSy g - 1) (bRl g 3)) (cBD s R) (Lsts g)) := by
  have hn := C.1.2.1
  have hd := hP.1
  have hb := hP.2.2.2.2.2.1
  obtain ⟨p1, p2, p3, p4, p5⟩ := hP.part (k := 4) (by omega)
  obtain ⟨s1, s2⟩ := hP.s4
  have sec0 := hP.sec (k := 0) (by omega)
  unfold Lsts
  have hA := h.2.1.1 4 (by omega)
  rw [show ((4 : Nat) : Int) + 1 = 5 from rfl] at hA
  rw [em_X21_starts]; unfold dm_X21_starts
  rw [jlt_in (by omega) (by omega), Option.bind_some, hA, eu_X21_starts_9]; unfold du_X21_starts_9
  refine jk_for (Lst g) (fun k t => rO s t R B g n k (nSy g - 1) (bRl g 3)) (fun k => [R, ep g 4, 2 * k]) 0 (sR g 4 / 2) (by omega) h (fun k t k0 k1 _ ht => ?_) fun t ht hG => ?_
  · show jE (b_X21_starts_9 t R (ep g 4) (2 * k)) _
    unfold b_X21_starts_9 Lst
    have c : ¬ ep g 4 = 0 := fun z => by have := p5 z; omega
    obtain ⟨q1, q2, q3, q4⟩ := hP.en c
    have hs : sR g 4 = rt g (ep g 4) 5 := by unfold sR; rw [if_neg c]
    have hf : fR g 4 = rt g (ep g 4) 4 := by unfold fR; rw [if_neg c]
    have v2 := r2_lo hb (p := fR g 4 + 2 * k) (by omega) (by omega)
    obtain ⟨hH, hr, hO, hV⟩ := id ht
    have F : ∀ {w}, rH s w R B g n → m_X21_from w R (ep g 4) = some (fR g 4) := fun hw => by
      rw [g_from C hw hd (by omega) q2, ← hf, W32_in (by omega) (by omega)]
    have hroom : m_X14_room t (R + 3) 0 = some (sR g 0) := by
      rw [e_X14_room _ _ _ (by omega), (hO.2.1 0 (by omega) (by omega)).1]; rfl
    rw [if_pos (by omega), g_size C hH hd (by omega) q2, Option.bind_some, ← hs, W32_in (by omega) (by omega), if_pos (by omega), F hH, Option.bind_some, W32_in (z := fR g 4 + 2 * k) (by omega) (by omega), g_u2 C hH.1 (by omega) (by omega), hroom, Option.bind_some]
    have e65 : ∀ w, u_X21_starts_65 w R (ep g 4) (2 * k) R = u_X21_starts_66 w R (ep g 4) (2 * k) 0 R := fun w => by rw [eu_X21_starts_65]; rfl
    have e66 : ∀ w v, rH s w R B g n → u_X21_starts_66 w R (ep g 4) (2 * k) v R = (m_X21_need w R v 33 (fR g 4 + 2 * k)).bind fun q2 => jth q2.2.1 (jinr (some (q2.1, true, q2.2.2))) <| some (.inl (q2.1, [R, ep g 4, W32 (2 * k + 2)])) := fun w v hw => by
      rw [eu_X21_starts_66]; unfold du_X21_starts_66
      rw [F hw, Option.bind_some, W32_in (z := fR g 4 + 2 * k) (by omega) (by omega)]
    have no : ∀ w (c : Prop), rH s w R B g n → ¬ c → jE (u_X21_starts_66 w R (ep g 4) (2 * k) 0 R) (ckR (fun x => ∃ t, x = .inl (t, [R, ep g 4, 2 * (k + 1)]) ∧ rO s t R B g n (k + 1) (nSy g - 1) (bRl g 3)) (fun f p x => ∃ r, x = .inr r ∧ cBD s R f p r) [(c, 33, fR g 4 + 2 * k)]) := fun w c hw hc => by
      rw [e66 w 0 hw]
      exact nd_x C hw.1.1 (.inl rfl) ⟨fun z => absurd z (by decide), fun z => absurd z hc⟩ (fun q hq => hq.inr) fun z => absurd z hc
    by_cases c1 : r2 g (fR g 4 + 2 * k) < sR g 0
    · rw [if_pos c1]
      refine jS_call (c_start hO hV (jin_of (by omega) (by omega)) (by omega)) fun q ⟨w1, w2⟩ => ?_
      have hst : stOK (oP g k (nSy g - 1) (bRl g 3)) (r2 g (fR g 4 + 2 * k)) ↔ r2 g (fR g 4 + 2 * k) % 2 = 0 ∧ (k = 0 ∨ r2 g (fR g 4 + 2 * (k - 1)) < r2 g (fR g 4 + 2 * k)) := by
        unfold stOK
        rw [oP_20, oP_3]
        constructor
        · rintro ⟨a1, a2, a3, a4, a5⟩
          refine ⟨a4, ?_⟩
          by_cases ck : k = 0
          · exact .inl ck
          · exact .inr (a5 (by omega))
        · rintro ⟨a1, a2⟩
          exact ⟨by omega, by omega, by omega, a1, fun z => by rcases a2 with q | q <;> omega⟩
      rcases w2 with ⟨w3, w4, w5⟩ | ⟨w3, w4, w5⟩
      · have H2 := hH.fx (w1.sub (by omega) (by omega))
        have vS := vStart hV w3
        rw [oP_st] at w5 vS
        rw [if_neg (by omega), e66 _ _ H2]
        refine nd_x C H2.1.1 (.inr rfl) ⟨fun _ => ⟨c1, (hst.mp w3).1, (hst.mp w3).2⟩, fun _ => rfl⟩ (fun q hq => hq.inr) fun _ => jk_end ?_
        dsimp only
        rw [W32_in (by omega) (by omega), show 2 * k + 2 = 2 * (k + 1) by omega]
        exact jS_end ⟨_, rfl, H2, hr.fx (w1.wide (by omega) (by omega)), w5, vS⟩
      · rw [if_pos w4, w5, e65]
        exact no t _ hH fun z => w3 (hst.mpr z.2)
    · rw [if_neg c1, e65]
      exact no t _ hH fun z => c1 z.1
  · show jE (b_X21_starts_9 t R (ep g 4) (2 * (sR g 4 / 2))) _
    unfold b_X21_starts_9
    obtain ⟨hH, hr, hO, hV⟩ := id ht
    have e84 : (if 0 < ep g 4 then (m_X21_sizeOf t R (ep g 4)).bind fun v1 => if 2 * (sR g 4 / 2) < v1 then (m_X21_from t R (ep g 4)).bind fun v2 => (jct t 39 (jf t 25 R 0) (m_X19_u2 t (jf t 25 R 0) (W32 (v2 + 2 * (sR g 4 / 2))))).bind fun v3 => (m_X14_room t (R + 3) 0).bind fun v4 => if v3 < v4 then (m_X14_start t (R + 3) v3).bind fun q5 => if q5.2 = 0 then u_X21_starts_65 q5.1 R (ep g 4) (2 * (sR g 4 / 2)) R else u_X21_starts_66 q5.1 R (ep g 4) (2 * (sR g 4 / 2)) 1 R else u_X21_starts_65 t R (ep g 4) (2 * (sR g 4 / 2)) R else jinr (u_X21_starts_84 t R) else jinr (u_X21_starts_84 t R)) = jinr (u_X21_starts_84 t R) := by
      by_cases c : 0 < ep g 4
      · obtain ⟨q1, q2, q3, q4⟩ := hP.en (k := 4) (by omega)
        have hs : sR g 4 = rt g (ep g 4) 5 := by unfold sR; rw [if_neg (by omega)]
        rw [if_pos c, g_size C hH hd (by omega) q2, Option.bind_some, ← hs, W32_in (by omega) (by omega), if_neg (by omega)]
      · rw [if_neg c]
    rw [e84, eu_X21_starts_84]; unfold du_X21_starts_84
    refine jS_inr (jE_mono (?_ : jE _ (ckR (cOK fun t => rO s t R B g n (sR g 4 / 2) (nSy g - 1) (bRl g 3)) (cBD s R) _)) fun r hr => ⟨r, rfl, hr⟩)
    have h52 := hd.1
    have nb : ¬ bd1 (oP g (sR g 4 / 2) (nSy g - 1) (bRl g 3)) := fun ⟨k, k0, k1, k2⟩ => by
      have := (Gd_cons.mp (hG k k0 k1)).1.1
      have k2 : sR g 0 ≤ r2 g (fR g 4 + 2 * k) := k2
      omega
    have eH : cn (isH (oP g (sR g 4 / 2) (nSy g - 1) (bRl g 3))) (sR g 4 / 2) = cn (isHf g) (sR g 4 / 2) := rfl
    have hsh := c_shorts hO hV nb
    rw [oP_20, eH] at hsh
    rw [g_u4 C hH.1 (by omega) (by omega)]
    have e127 : (if L_cmp (r4 g 36) 1 = 0 then u_X21_starts_104 t R 1 R else u_X21_starts_104 t R 0 R) = if (r4 g 36 = 1 ↔ 0 < cn (isHf g) (sR g 4 / 2)) then u_X21_starts_127 t 1 R else u_X21_starts_127 t 0 R := by
      simp only [eu_X21_starts_104, du_X21_starts_104, hsh, Option.bind_some, eu_X21_starts_119, du_X21_starts_119, L_cmp_0]
      by_cases c1 : r4 g 36 = 1 <;> by_cases c2 : 0 < cn (isHf g) (sR g 4 / 2) <;> simp only [c1, c2, eq_self, and_false, false_and, and_true, true_and, if_true, if_false, reduceIte, Int.reduceEq, Int.reduceLT, Int.reduceLE, Int.reduceNeg, not_false_eq_true, Option.bind_some, jls, iff_true, iff_false, true_iff, false_iff, not_true_eq_false]
    rw [e127]
    refine nd_if C hH.1.1 (by rw [eu_X21_starts_127]; rfl) (by rw [eu_X21_starts_127]; rfl) Iff.rfl (fun q hq => hq.end) fun _ => jk_end ?_
    dsimp only
    exact jS_end ⟨rfl, ht⟩
/-- what comes of a reading -/
def rBD (s : jS) (R : Int) (f p : Int) (r : jS × Int) : Prop := r.2 = f ∧ ∃ u, jFx s u R 619 ∧ jf u 25 R 10 = p ∧ r.1 = jmk u 2054 0 (fun _ => 0) 6
def rOKr (s : jS) (R : Int) (g : Int → Int) (r : jS × Int) : Prop := r.2 = 0 ∧ jFx s r.1 R 619 ∧ jf r.1 25 R 10 = -1 ∧ cOb r.1 (R + 3) (oR g) ∧ vOb (oR g)
theorem cBD.rd {q : jS × Bool × Int} (h : cBD s R f p q) : jE (if jK q.1 q.2.2 ∈ ([2054] : List Int) then u_X21_read_52 q.1 R q.2.2 else none) (rBD s R f p) := by
  obtain ⟨-, u, h1, h2, h3, h4, h5⟩ := h
  have e : jK q.1 q.2.2 = 2054 := by
    rw [h4, h5]
    show (if jn u = jn u then (2054 : Int) else jK u (jn u)) = _
    rw [if_pos rfl]
  rw [if_pos (by rw [e]; decide), eu_X21_read_52]; unfold du_X21_read_52
  refine jS_end ⟨?_, u, h1, h3, h4⟩
  show jf q.1 25 R 9 = f
  rw [h4]
  show (if (25 : Int) = 2054 ∧ R = jn u then (0 : Int) else jf u 25 R 9) = f
  rw [if_neg (by omega)]; exact h2
theorem c_rread (C : rC s R B g n) (hC : pCon s) (hL : cObL s (R + 3)) : jE (m_X21_read s R B) (ckR (rOKr s R g) (rBD s R) (Lall g n)) := by
  have hn := C.1.2.1
  obtain ⟨b0, b1, -⟩ := T39 C.1.2.2
  have hsz : jf s 23 B 1 = n := by
    obtain ⟨⟨a, b, c⟩, d, -⟩ := C.1
    exact (c.resolve_right (by omega)).2.2.1
  have hdis := C.2.1
  rw [em_X21_read]; unfold dm_X21_read
  simp only [jls]
  have k1 : jFx s (jp s 25 R 0 B) R 619 := jFx.rfl.jp rfl (by omega) (by omega)
  rw [jrd_in b0 (show jK (jp s 25 R 0 B) B = 23 from b1), Option.bind_some, jf_neg (by omega), hsz]
  have R0 : rS s (jp (jp s 25 R 0 B) 25 R 1 n) R B n := ⟨k1.jp rfl (by omega) (by omega), by (repeat (first | rw [jf_neg (by omega)] | rw [jf_pos (by omega)] | rw [ou_neg (by omega)] | rw [ou_pos (by omega)])), by (repeat (first | rw [jf_neg (by omega)] | rw [jf_pos (by omega)] | rw [ou_neg (by omega)] | rw [ou_pos (by omega)]))⟩
  generalize jp (jp s 25 R 0 B) 25 R 1 n = s3 at R0 ⊢
  unfold Lall
  refine nx_c (Q := fun _ => True) (c_head C R0) (fun q f p hq => hq.rd) fun g1 t1 v1 H1 => ?_
  dsimp only
  have hd := Lhead_ok g1
  refine nx_c (Q := fun _ => True) (c_entries C H1 hd) (fun q f p hq => hq.rd) fun g2 t2 v2 e2 => ?_
  subst e2
  dsimp only
  have hE := En_of g2
  refine nx_c (Q := fun _ => True) (c_namesR C H1 hd hE hC) (fun q f p hq => hq.rd) fun g3 t3 v3 H3 => ?_
  dsimp only
  obtain ⟨H3, k3, hr⟩ := H3
  have hN : Nm g := by
    unfold Lnames at g3
    rw [Gd_cons, Gd_app, Gd_app] at g3
    exact Nm_of g3.2.2.1
  refine nx_c (Q := fun _ => True) (c_rules C H3 hd hN hr) (fun q f p hq => hq.rd) fun g4 t4 v4 e4 => ?_
  subst e4
  dsimp only
  have hR := Ru_of g4
  refine nx_c (Q := fun _ => True) (c_sizes C H3 hd hN hE hR hr) (fun q f p hq => hq.rd) fun g5 t5 v5 e5 => ?_
  subst e5
  dsimp only
  have hP : Pr g n := ⟨hd, hE, hN, hR, Sz_of g5, C.1.by, hn⟩
  refine jS_call (c_rsec C H3 hr hP (fun x x0 x1 => by rw [H3.1.1.N]; exact hL x x0 x1)) fun q ⟨H6, hr6, hO6⟩ => ?_
  refine nx_c (Q := fun _ => True) (c_rsyms C ⟨H6, hr6, hO6, vP0 hP⟩ hP) (fun q f p hq => hq.rd) fun g7 t7 v7 H7 => ?_
  dsimp only
  refine nx_c (Q := fun _ => True) (c_rmoves C H7 hP) (fun q f p hq => hq.rd) fun g8 t8 v8 H8 => ?_
  dsimp only
  rw [← List.append_nil (Lsts g)]
  refine nx_c (Q := fun _ => True) (c_rstarts C H8 hP) (fun q f p hq => hq.rd) fun g9 t9 v9 ⟨H9, hr9, hO9, hV9⟩ => jk_end ?_
  dsimp only
  have k10 : jFx t9 (jp t9 25 R 10 (-1)) R 1 := jFx.rfl.jp rfl (by omega) (by omega)
  exact jS_end ⟨rfl, H9.1.1.trans (k10.wide (by omega) (by omega)), by (repeat (first | rw [jf_neg (by omega)] | rw [jf_pos (by omega)] | rw [ou_neg (by omega)] | rw [ou_pos (by omega)])), hO9.kf k10 (by omega) hV9.2.2.1, hV9⟩
/-- an object as it lies -/
def oH (s : jS) (b : Int) (o : Int → Int → Int → Int) : Prop := jTt s 34 b ∧ cOb s b o ∧ vOb o
theorem oH.kf {lo m : Int} (h : oH s b o) (k : jFx s t lo m) (d : b + 613 ≤ lo ∨ lo + m ≤ b) : oH t b o := ⟨h.1.ext k.2, h.2.1.kf k d h.2.2.2.2.1, h.2.2⟩
/-- reads of sections, starts, symbols, relocations -/
theorem q_sec (h : oH u b o) (x0 : 0 ≤ x) (x1 : x < 4) : jrd u 18 b 0 = some (b + 1) ∧ jld u 1013 (b + 1) x = some ((b + 1) + 4 + 2 * x) ∧ jrd u 19 ((b + 1) + 4 + 2 * x) 1 = some (o 1 x 0) ∧ jrd u 19 ((b + 1) + 4 + 2 * x) 2 = some (o 1 x 1) ∧ jrd u 19 ((b + 1) + 4 + 2 * x) 0 = some (((b + 1) + 4 + 2 * x) + 1) ∧ jrd u 18 b 2 = some (o 2 0 0) ∧ jrd u 18 b 1 = some (b + 2) ∧ jrd u 18 b 6 = some (o 2 2 0) ∧ jrd u 18 b 5 = some (b + 4) ∧ jrd u 18 b 4 = some (o 2 1 0) ∧ jrd u 18 b 3 = some (b + 3) := by
  obtain ⟨h2, h3, h4⟩ := h
  obtain ⟨⟨b0, b1⟩, ⟨a1, a2, a3, a4, a5⟩, ⟨c1, c2, c3, c4⟩, ⟨d1, d2, d3, d4, d5⟩, ⟨f1, f2, f3, f4, f5⟩⟩ := T34 h2
  obtain ⟨e1, e2⟩ := a5 x x0 x1
  obtain ⟨i1, i2, i3, i4, i5⟩ := T35 e2
  obtain ⟨k1, k2⟩ := h3.2.1 x x0 x1
  obtain ⟨m1, m2, m3⟩ := h3.2.2.2.1
  refine ⟨by rw [jrd_in b0 b1, a1], ?_, by rw [jrd_in i1 i2, k1], by rw [jrd_in i1 i2, k2], by rw [jrd_in i1 i2, i3], by rw [jrd_in b0 b1, m1], by rw [jrd_in b0 b1, c1], by rw [jrd_in b0 b1, m3], by rw [jrd_in b0 b1, f1], by rw [jrd_in b0 b1, m2], by rw [jrd_in b0 b1, d1]⟩
  unfold jld; rw [if_pos ⟨a2, a3, x0, by omega⟩, e1]
theorem q_byte (h : oH u b o) (x0 : 0 ≤ x) (x1 : x < 3) (y0 : 0 ≤ y) (y1 : y < o 1 x 0) : jld u 1001 (((b + 1) + 4 + 2 * x) + 1) y = some (sb (o 0 x y)) ∧ 0 ≤ o 0 x y ∧ o 0 x y < 256 := by
  obtain ⟨h2, h3, h4⟩ := h
  obtain ⟨-, ⟨a1, a2, a3, a4, a5⟩, -⟩ := T34 h2
  obtain ⟨i1, i2, i3, i4, i5⟩ := T35 (a5 x x0 (by omega)).2
  have hl := h3.1 x x0 (by omega)
  rw [if_neg (by omega)] at hl
  have hv := (h4.1 x x0 (by omega)).2.1
  rw [if_neg (by omega)] at hv
  refine ⟨?_, h4.2.1 x y x0 x1 y0 y1⟩
  unfold jld; rw [if_pos ⟨i4, i5, y0, by rw [hl]; omega⟩, h3.2.2.1 x y x0 x1 y0 y1]
theorem q_start (h : oH u b o) (y0 : 0 ≤ y) (y1 : y < o 2 0 0) : jld u 1003 (b + 2) y = some (o 3 y 0) ∧ 0 ≤ o 3 y 0 ∧ o 3 y 0 ≤ 2046 := by
  obtain ⟨h2, h3, h4⟩ := h
  obtain ⟨-, -, ⟨c1, c2, c3, c4⟩, -⟩ := T34 h2
  have hv := h4.2.2.2.1 y y0 y1
  have hn := h4.2.2.1
  unfold vObN at hn
  refine ⟨?_, hv.1, hv.2.1⟩
  unfold jld; rw [if_pos ⟨c2, c3, y0, by omega⟩, h3.2.2.2.2.1 y y0 y1]
theorem q_sym (h : oH u b o) (y0 : 0 ≤ y) (y1 : y < o 2 1 0) : jld u 1014 (b + 3) y = some ((b + 3) + 10 + 3 * y) ∧ (0 ≤ (b + 3) + 10 + 3 * y ∧ jK u ((b + 3) + 10 + 3 * y) = 20) ∧ cSy u ((b + 3) + 10 + 3 * y) (o 4 y) ∧ vSy (o 4 y) ∧ jf u 20 ((b + 3) + 10 + 3 * y) 0 = ((b + 3) + 10 + 3 * y) + 1 ∧ jTt u 37 (((b + 3) + 10 + 3 * y) + 1) := by
  obtain ⟨h2, h3, h4⟩ := h
  obtain ⟨-, -, -, ⟨d1, d2, d3, d4, d5⟩, -⟩ := T34 h2
  have hn := h4.2.2.1
  unfold vObN at hn
  obtain ⟨e1, e2⟩ := d5 y y0 (by omega)
  obtain ⟨i1, i2, i3, i4⟩ := T36 e2
  refine ⟨?_, ⟨i1, i2⟩, h3.2.2.2.2.2.1 y y0 y1, h4.2.2.2.2.1 y y0 y1, i3, i4⟩
  unfold jld; rw [if_pos ⟨d2, d3, y0, by omega⟩, e1]
theorem q_rel (h : oH u b o) (y0 : 0 ≤ y) (y1 : y < o 2 2 0) : jld u 1012 (b + 4) y = some ((b + 4) + 309 + 1 * y) ∧ (0 ≤ (b + 4) + 309 + 1 * y ∧ jK u ((b + 4) + 309 + 1 * y) = 22) ∧ cRl u ((b + 4) + 309 + 1 * y) (o 5 y) ∧ vRl (o 2 1 0) (o 5 y) := by
  obtain ⟨h2, h3, h4⟩ := h
  obtain ⟨-, -, -, -, ⟨f1, f2, f3, f4, f5⟩⟩ := T34 h2
  have hn := h4.2.2.1
  unfold vObN at hn
  obtain ⟨e1, e2⟩ := f5 y y0 (by omega)
  obtain ⟨i1, i2⟩ := T38 e2
  refine ⟨?_, ⟨i1, i2⟩, h3.2.2.2.2.2.2 y y0 y1, h4.2.2.2.2.2 y y0 y1⟩
  unfold jld; rw [if_pos ⟨f2, f3, y0, by omega⟩, e1]
theorem c_bset (h : oH s b' o) (hL : cObL s b) (hd : b + 613 ≤ b' ∨ b' + 613 ≤ b) : jE (m_X14_set s b b') fun q => jFx s q.1 b 613 ∧ cOb q.1 b o := by
  have v := h.2.2
  have hvn := v.2.2.1
  unfold vObN at hvn
  rw [em_X14_set]; unfold dm_X14_set
  rw [eu_X14_set_2]; unfold du_X14_set_2
  refine jS_for (fun x u => jFx s u b 613 ∧ (∀ y, 0 ≤ y → y < 4 → y < x → jf u 19 ((b + 1) + 4 + 2 * y) 1 = o 1 y 0 ∧ jf u 19 ((b + 1) + 4 + 2 * y) 2 = o 1 y 1) ∧ ∀ y i, 0 ≤ y → y < 3 → y < x → 0 ≤ i → i < o 1 y 0 → jf u 1001 (((b + 1) + 4 + 2 * y) + 1) i = sb (o 0 y i)) (fun x => [b, b', x]) 0 4 (by omega) ⟨jFx.rfl, fun y y0 y1 y2 => by omega, fun y i y0 y1 y2 => by omega⟩ (fun x u x0 x1 ⟨e1, e2, e3⟩ => ?_) (fun u ⟨e1, e2, e3⟩ => ?_)
  · show jE (b_X14_set_2 u b b' x) _
    unfold b_X14_set_2
    have H := h.kf e1 (by omega)
    obtain ⟨r1, r2, r3, r4, r5, -⟩ := q_sec H x0 x1
    obtain ⟨v1, v2, v3⟩ := v.1 x x0 x1
    rw [if_pos x1, jix_in x0 x1, Option.bind_some, r1, Option.bind_some, r2, Option.bind_some, em_X15_set]; unfold dm_X15_set
    have hl := hL x x0 x1
    rw [r3, Option.bind_some]
    simp only [jls]
    have kx : jFx u (jp u 19 ((b + 1) + 4 + 2 * x) 1 (o 1 x 0)) b 613 := jFx.rfl.jp rfl (by omega) (by omega)
    obtain ⟨-, -, -, r4, -⟩ := q_sec (H.kf kx (by omega)) x0 x1
    rw [r4, Option.bind_some, eu_X15_set_18]; unfold du_X15_set_18
    have ky : jFx s (jp (jp u 19 ((b + 1) + 4 + 2 * x) 1 (o 1 x 0)) 19 ((b + 1) + 4 + 2 * x) 2 (o 1 x 1)) b 613 := (e1.trans kx).jp rfl (by omega) (by omega)
    have fin : ∀ w, jFx s w b 613 → (∀ c a i, ¬ (c = 1001 ∧ a = ((b + 1) + 4 + 2 * x) + 1) → jf w c a i = jf (jp (jp u 19 ((b + 1) + 4 + 2 * x) 1 (o 1 x 0)) 19 ((b + 1) + 4 + 2 * x) 2 (o 1 x 1)) c a i) → (x < 3 → ∀ i, 0 ≤ i → i < o 1 x 0 → jf w 1001 (((b + 1) + 4 + 2 * x) + 1) i = sb (o 0 x i)) → jFx s w b 613 ∧ (∀ y, 0 ≤ y → y < 4 → y < x + 1 → jf w 19 ((b + 1) + 4 + 2 * y) 1 = o 1 y 0 ∧ jf w 19 ((b + 1) + 4 + 2 * y) 2 = o 1 y 1) ∧ ∀ y i, 0 ≤ y → y < 3 → y < x + 1 → 0 ≤ i → i < o 1 y 0 → jf w 1001 (((b + 1) + 4 + 2 * y) + 1) i = sb (o 0 y i) := by
      intro w kw hw hb
      refine ⟨kw, fun y y0 y1 y2 => ?_, fun y i y0 y1 y2 i0 i1 => ?_⟩
      · rw [hw _ _ _ (by omega), hw _ _ _ (by omega)]
        by_cases c : y = x
        · subst c
          rw [jf_neg (by omega), jf_pos ⟨rfl, rfl, rfl⟩, jf_pos ⟨rfl, rfl, rfl⟩]; exact ⟨rfl, rfl⟩
        · rw [jf_neg (by omega), jf_neg (by omega), jf_neg (by omega), jf_neg (by omega)]; exact e2 y y0 y1 (by omega)
      · by_cases c : y = x
        · subst c; exact hb y1 i i0 i1
        · rw [hw _ _ _ (by omega), jf_neg (by omega), jf_neg (by omega)]; exact e3 y i y0 y1 (by omega) i0 i1
    have nx : ∀ w, jE (some (w, 0) : Option (jS × Int)) (fun q => q.1 = w) := fun w => jS_end rfl
    have body : jE (jlpW (jc3 b_X15_set_18) [(b + 1) + 4 + 2 * x, (b' + 1) + 4 + 2 * x, 0] (jp (jp u 19 ((b + 1) + 4 + 2 * x) 1 (o 1 x 0)) 19 ((b + 1) + 4 + 2 * x) 2 (o 1 x 1))) fun q => jFx s q.1 b 613 ∧ (∀ c a i, ¬ (c = 1001 ∧ a = ((b + 1) + 4 + 2 * x) + 1) → jf q.1 c a i = jf (jp (jp u 19 ((b + 1) + 4 + 2 * x) 1 (o 1 x 0)) 19 ((b + 1) + 4 + 2 * x) 2 (o 1 x 1)) c a i) ∧ (x < 3 → ∀ i, 0 ≤ i → i < o 1 x 0 → jf q.1 1001 (((b + 1) + 4 + 2 * x) + 1) i = sb (o 0 x i)) := by
      by_cases c3 : x = 3
      · rw [if_pos c3] at hl
        rw [jlpW_r (C := jc3 b_X15_set_18) (vs := [(b + 1) + 4 + 2 * x, (b' + 1) + 4 + 2 * x, 0]) (r := some (jp (jp u 19 ((b + 1) + 4 + 2 * x) 1 (o 1 x 0)) 19 ((b + 1) + 4 + 2 * x) 2 (o 1 x 1), 0)) (by
          show b_X15_set_18 _ ((b + 1) + 4 + 2 * x) ((b' + 1) + 4 + 2 * x) 0 = _
          unfold b_X15_set_18
          rw [if_neg (by rw [ky.N, hl]; omega)])]
        exact jS_end ⟨ky, fun _ _ _ _ => rfl, fun z => by omega⟩
      · rw [if_neg c3] at hl v2
        refine jS_for (fun i w => jFx s w b 613 ∧ (∀ c a j, ¬ (c = 1001 ∧ a = ((b + 1) + 4 + 2 * x) + 1) → jf w c a j = jf (jp (jp u 19 ((b + 1) + 4 + 2 * x) 1 (o 1 x 0)) 19 ((b + 1) + 4 + 2 * x) 2 (o 1 x 1)) c a j) ∧ ∀ j, 0 ≤ j → j < i → jf w 1001 (((b + 1) + 4 + 2 * x) + 1) j = sb (o 0 x j)) (fun i => [(b + 1) + 4 + 2 * x, (b' + 1) + 4 + 2 * x, i]) 0 (o 1 x 0) v1 ⟨ky, fun _ _ _ _ => rfl, fun j j0 j1 => by omega⟩ (fun i w i0 i1 ⟨f1, f2, f3⟩ => ?_) (fun w ⟨f1, f2, f3⟩ => ?_)
        · show jE (b_X15_set_18 w ((b + 1) + 4 + 2 * x) ((b' + 1) + 4 + 2 * x) i) _
          unfold b_X15_set_18
          have Hw := h.kf f1 (by omega)
          obtain ⟨-, -, -, -, r5, -⟩ := q_sec Hw x0 x1
          obtain ⟨y1, y2, y3⟩ := q_byte Hw x0 (by omega) i0 i1
          rw [if_pos (by rw [f1.N, hl]; omega), f2 _ _ _ (by omega), jf_neg (by omega), jf_pos ⟨rfl, rfl, rfl⟩, if_pos i1, r5, Option.bind_some, y1, Option.bind_some, W8_sb, sb_mod y2 y3, jst_in i0 (by rw [f1.N, hl]; omega), Option.bind_some, W32_in (by omega) (by omega)]
          refine jS_end ⟨rfl, f1.jp rfl (by omega) (by omega), fun c a j hq => by rw [jf_neg (by omega)]; exact f2 c a j hq, fun j j0 j1 => ?_⟩
          by_cases cj : j = i
          · rw [jf_pos ⟨rfl, rfl, cj⟩, cj]
          · rw [jf_neg (by omega)]; exact f3 j j0 (by omega)
        · show jE (b_X15_set_18 w ((b + 1) + 4 + 2 * x) ((b' + 1) + 4 + 2 * x) (o 1 x 0)) _
          unfold b_X15_set_18
          rw [f2 _ _ _ (by omega), jf_neg (by omega), jf_pos ⟨rfl, rfl, rfl⟩]
          have e : ∀ X : Option ((jS × List Int) ⊕ (jS × Int)), (if o 1 x 0 < jN w ((b + 1) + 4 + 2 * x + 1) then if o 1 x 0 < o 1 x 0 then X else jinr (some (w, 0)) else jinr (some (w, 0))) = jinr (some (w, 0)) := fun X => by
            by_cases c : o 1 x 0 < jN w ((b + 1) + 4 + 2 * x + 1)
            · rw [if_pos c, if_neg (by omega)]
            · rw [if_neg c]
          rw [e]
          exact jS_inr (jS_end ⟨f1, f2, fun _ => f3⟩)
    refine jS_call body fun q ⟨q1, q2, q3⟩ => ?_
    rw [W32_in (by omega) (by omega)]
    exact jS_end ⟨rfl, fin q.1 q1 q2 q3⟩
  show jE (b_X14_set_2 u b b' 4) _
  unfold b_X14_set_2
  rw [if_neg (by omega), eu_X14_set_28]; unfold du_X14_set_28
  refine jS_inr ?_
  have H := h.kf e1 (by omega)
  obtain ⟨-, -, -, -, -, r6, r7, r8, r9, r10, r11⟩ := q_sec H (x := 0) (by omega) (by omega)
  rw [r6, Option.bind_some]
  simp only [jls]
  have kx : jFx u (jp u 18 b 2 (o 2 0 0)) b 613 := jFx.rfl.jp rfl (by omega) (by omega)
  obtain ⟨-, -, -, -, -, -, -, -, -, r10, -⟩ := q_sec (H.kf kx (by omega)) (x := 0) (by omega) (by omega)
  rw [r10, Option.bind_some]
  have ky : jFx u (jp (jp u 18 b 2 (o 2 0 0)) 18 b 4 (o 2 1 0)) b 613 := kx.jp rfl (by omega) (by omega)
  obtain ⟨-, -, -, -, -, -, -, r8, -⟩ := q_sec (H.kf ky (by omega)) (x := 0) (by omega) (by omega)
  rw [r8, Option.bind_some]
  have kz : jFx s (jp (jp (jp u 18 b 2 (o 2 0 0)) 18 b 4 (o 2 1 0)) 18 b 6 (o 2 2 0)) b 613 := (e1.trans ky).jp rfl (by omega) (by omega)
  have A0 : cObA (jp (jp (jp u 18 b 2 (o 2 0 0)) 18 b 4 (o 2 1 0)) 18 b 6 (o 2 2 0)) b o := fun x x0 x1 => by (repeat (first | rw [jf_neg (by omega)] | rw [jf_pos (by omega)] | rw [ou_neg (by omega)] | rw [ou_pos (by omega)])); exact e2 x x0 x1 x1
  have B0 : cObB (jp (jp (jp u 18 b 2 (o 2 0 0)) 18 b 4 (o 2 1 0)) 18 b 6 (o 2 2 0)) b o := fun x k x0 x1 k0 k1 => by (repeat (first | rw [jf_neg (by omega)] | rw [jf_pos (by omega)] | rw [ou_neg (by omega)] | rw [ou_pos (by omega)])); exact e3 x k x0 x1 (by omega) k0 k1
  have N0 : cObN (jp (jp (jp u 18 b 2 (o 2 0 0)) 18 b 4 (o 2 1 0)) 18 b 6 (o 2 2 0)) b o := ⟨by (repeat (first | rw [jf_neg (by omega)] | rw [jf_pos (by omega)] | rw [ou_neg (by omega)] | rw [ou_pos (by omega)])), by (repeat (first | rw [jf_neg (by omega)] | rw [jf_pos (by omega)] | rw [ou_neg (by omega)] | rw [ou_pos (by omega)])), by (repeat (first | rw [jf_neg (by omega)] | rw [jf_pos (by omega)] | rw [ou_neg (by omega)] | rw [ou_pos (by omega)]))⟩
  clear e2 e3 r6 r7 r8 r9 r10 r11 H
  generalize jp (jp (jp u 18 b 2 (o 2 0 0)) 18 b 4 (o 2 1 0)) 18 b 6 (o 2 2 0) = u1 at kz A0 B0 N0
  rw [eu_X14_set_54]; unfold du_X14_set_54
  refine jS_for (fun k w => jFx s w b 613 ∧ (∀ c a i, ¬ (c = 1003 ∧ a = b + 2) → jf w c a i = jf u1 c a i) ∧ ∀ i, 0 ≤ i → i < k → jf w 1003 (b + 2) i = o 3 i 0) (fun k => [b, b', k]) 0 (o 2 0 0) (by omega) ⟨kz, fun _ _ _ _ => rfl, fun i i0 i1 => by omega⟩ (fun k w k0 k1 ⟨f1, f2, f3⟩ => ?_) (fun w ⟨f1, f2, f3⟩ => ?_)
  · show jE (b_X14_set_54 w b b' k) _
    unfold b_X14_set_54
    have Hw := h.kf f1 (by omega)
    obtain ⟨-, -, -, -, -, r6, r7, -⟩ := q_sec Hw (x := 0) (by omega) (by omega)
    obtain ⟨y1, y2, y3⟩ := q_start Hw k0 k1
    rw [f2 _ _ _ (by omega), N0.1, if_pos k1, r7, Option.bind_some, y1, Option.bind_some, W16_in (by omega) (by omega), jst_in k0 (by omega), Option.bind_some, W32_in (by omega) (by omega)]
    refine jS_end ⟨rfl, f1.jp rfl (by omega) (by omega), fun c a i hq => by rw [jf_neg (by omega)]; exact f2 c a i hq, fun i i0 i1 => ?_⟩
    by_cases ci : i = k
    · rw [jf_pos ⟨rfl, rfl, ci⟩, ci]
    · rw [jf_neg (by omega)]; exact f3 i i0 (by omega)
  show jE (b_X14_set_54 w b b' (o 2 0 0)) _
  unfold b_X14_set_54
  rw [f2 _ _ _ (by omega), N0.1, if_neg (by omega), eu_X14_set_80]; unfold du_X14_set_80
  refine jS_inr ?_
  have A1 : cObA w b o := A0.keep fun x k x0 x1 => f2 _ _ _ (by omega)
  have B1 : cObB w b o := B0.keep fun x k x0 x1 => f2 _ _ _ (by omega)
  have N1 : cObN w b o := N0.keep fun k => f2 _ _ _ (by omega)
  have T1 : cObT w b o := f3
  clear A0 B0 N0 f2 f3
  rw [eu_X14_set_82]; unfold du_X14_set_82
  refine jS_for (fun k z => jFx s z b 613 ∧ (∀ c a i, (a < b + 13 ∨ b + 313 ≤ a) → jf z c a i = jf w c a i) ∧ ∀ i, 0 ≤ i → i < k → cSy z ((b + 3) + 10 + 3 * i) (o 4 i)) (fun k => [b, b', k]) 0 (o 2 1 0) (by omega) ⟨f1, fun _ _ _ _ => rfl, fun i i0 i1 => by omega⟩ (fun k z k0 k1 ⟨g1, g2, g3⟩ => ?_) (fun z ⟨g1, g2, g3⟩ => ?_)
  · show jE (b_X14_set_82 z b b' k) _
    unfold b_X14_set_82
    have Hw := h.kf g1 (by omega)
    obtain ⟨-, -, -, -, -, -, -, -, -, r10, r11⟩ := q_sec Hw (x := 0) (by omega) (by omega)
    obtain ⟨y1, ⟨y2, y3⟩, y4, y5, y6, y7⟩ := q_sym Hw k0 k1
    rw [g2 _ _ _ (by omega), N1.2.1, if_pos k1, jix_in k0 (by omega), Option.bind_some, r11, Option.bind_some, y1, Option.bind_some]
    have tz : jTt z 36 ((b' + 3) + 10 + 3 * k) := by
      obtain ⟨-, -, -, ⟨d1, d2, d3, d4, d5⟩, -⟩ := T34 Hw.1
      exact (d5 k k0 (by omega)).2
    refine jS_call (c_syset (y := b + 3 + 10 + 3 * k) y4 y5.2.2.2.2.2.2.2.2.2.1 tz (by omega)) fun q ⟨q1, q2⟩ => ?_
    rw [W32_in (by omega) (by omega)]
    refine jS_end ⟨rfl, g1.trans (q1.wide (by omega) (by omega)), fun c a i hq => by rw [q1.F (by omega)]; exact g2 c a i hq, fun i i0 i1 => ?_⟩
    by_cases ci : i = k
    · subst ci; exact q2
    · exact (g3 i i0 (by omega)).keep fun c a j a0 a1 => q1.F (by omega) j
  show jE (b_X14_set_82 z b b' (o 2 1 0)) _
  unfold b_X14_set_82
  rw [g2 _ _ _ (by omega), N1.2.1, if_neg (by omega), eu_X14_set_111]; unfold du_X14_set_111
  refine jS_inr ?_
  rw [eu_X14_set_113]; unfold du_X14_set_113
  refine jS_for (fun k y => jFx s y b 613 ∧ (∀ c a i, (a < b + 313 ∨ b + 613 ≤ a) → jf y c a i = jf z c a i) ∧ ∀ i, 0 ≤ i → i < k → cRl y ((b + 4) + 309 + 1 * i) (o 5 i)) (fun k => [b, b', k]) 0 (o 2 2 0) (by omega) ⟨g1, fun _ _ _ _ => rfl, fun i i0 i1 => by omega⟩ (fun k y k0 k1 ⟨i1, i2, i3⟩ => ?_) (fun y ⟨i1, i2, i3⟩ => ?_)
  · show jE (b_X14_set_113 y b b' k) _
    unfold b_X14_set_113
    have Hw := h.kf i1 (by omega)
    obtain ⟨-, -, -, -, -, -, -, r8, r9, -⟩ := q_sec Hw (x := 0) (by omega) (by omega)
    obtain ⟨y1, ⟨y2, y3⟩, ⟨y4, y5, y6, y7, y8⟩, -⟩ := q_rel Hw k0 k1
    rw [i2 _ _ _ (by omega), g2 _ _ _ (by omega), N1.2.2, if_pos k1, jix_in k0 (by omega), Option.bind_some, r9, Option.bind_some, y1, Option.bind_some, em_X18_set_2]; unfold dm_X18_set_2
    rw [jrd_in y2 y3, Option.bind_some, jrd_in y2 y3, Option.bind_some, jrd_in y2 y3, Option.bind_some, jrd_in y2 y3, Option.bind_some, jrd_in y2 y3, Option.bind_some, y4, y5, y6, y7, y8, em_X18_set]; unfold dm_X18_set
    simp only [jls, Option.bind_some]
    rw [W32_in (by omega) (by omega)]
    have q1 : jFx y (jp (jp (jp (jp (jp y 22 (b + 4 + 309 + 1 * k) 0 (o 5 k 0)) 22 (b + 4 + 309 + 1 * k) 1 (o 5 k 1)) 22 (b + 4 + 309 + 1 * k) 2 (o 5 k 2)) 22 (b + 4 + 309 + 1 * k) 3 (o 5 k 3)) 22 (b + 4 + 309 + 1 * k) 4 (o 5 k 4)) (b + 4 + 309 + 1 * k) 1 := ((((jFx.rfl.jp rfl (by omega) (by omega)).jp rfl (by omega) (by omega)).jp rfl (by omega) (by omega)).jp rfl (by omega) (by omega)).jp rfl (by omega) (by omega)
    have fs : cRl (jp (jp (jp (jp (jp y 22 (b + 4 + 309 + 1 * k) 0 (o 5 k 0)) 22 (b + 4 + 309 + 1 * k) 1 (o 5 k 1)) 22 (b + 4 + 309 + 1 * k) 2 (o 5 k 2)) 22 (b + 4 + 309 + 1 * k) 3 (o 5 k 3)) 22 (b + 4 + 309 + 1 * k) 4 (o 5 k 4)) (b + 4 + 309 + 1 * k) (o 5 k) := by
      refine ⟨?_, ?_, ?_, ?_, ?_⟩ <;> (repeat (first | rw [jf_neg (by omega)] | rw [jf_pos (by omega)] | rw [ou_neg (by omega)] | rw [ou_pos (by omega)]))
    generalize jp (jp (jp (jp (jp y 22 (b + 4 + 309 + 1 * k) 0 (o 5 k 0)) 22 (b + 4 + 309 + 1 * k) 1 (o 5 k 1)) 22 (b + 4 + 309 + 1 * k) 2 (o 5 k 2)) 22 (b + 4 + 309 + 1 * k) 3 (o 5 k 3)) 22 (b + 4 + 309 + 1 * k) 4 (o 5 k 4) = y' at q1 fs ⊢
    refine jS_end ⟨rfl, i1.trans (q1.wide (by omega) (by omega)), fun c a i hq => by rw [q1.F (by omega)]; exact i2 c a i hq, fun i i0 i1 => ?_⟩
    by_cases ci : i = k
    · subst ci; exact fs
    · exact (i3 i i0 (by omega)).keep fun j => q1.F (by omega) j
  · show jE (b_X14_set_113 y b b' (o 2 2 0)) _
    unfold b_X14_set_113
    rw [i2 _ _ _ (by omega), g2 _ _ _ (by omega), N1.2.2, if_neg (by omega)]
    have back : ∀ c a i, (a < b + 13 ∨ b + 613 ≤ a) → jf y c a i = jf w c a i := fun c a i ha => by rw [i2 _ _ _ (by omega)]; exact g2 _ _ _ (by omega)
    refine jS_inr (jS_end ⟨i1, fun x x0 x1 => by rw [i1.N]; exact hL x x0 x1, A1.keep fun x k x0 x1 => back _ _ _ (by omega), B1.keep fun x k x0 x1 => back _ _ _ (by omega), N1.keep fun k => back _ _ _ (by omega), T1.keep fun k => back _ _ _ (by omega), fun k k0 k1 => ?_, i3⟩)
    exact (g3 k k0 k1).keep fun c a j a0 a1 => i2 _ _ _ (by omega)
end jCread9
