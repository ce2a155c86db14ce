/-! the twin reads a file: relocations, starts, all of the faults -/
section jTread5
variable {s t u : jS} {X n p q f a b x y z e k m : Int} {g g' : Int → Int} {o : Int → Int → Int → Int} {L : List (Prop × Int × Int)} {c : Prop} {S : Int}
theorem r4_m (hb : byG g n) (p0 : 0 ≤ p) (p1 : p + 3 < n) : r4 g p % 256 = g p ∧ 0 ≤ r4 g p / 256 ∧ r4 g p / 256 < 16777216 := by
  have h0 := hb p p0 (by omega)
  have h1 := r4_lo hb p0 p1
  refine ⟨?_, by omega, by omega⟩
  unfold r4 r2; omega
theorem wd_t (a : Int) : m_X40_widthOf u k a = some (kW k a) := by
  rw [e_X40_widthOf]; unfold v_X40_widthOf kW
  congr 1
  by_cases c1 : k = 43
  · rw [if_pos c1, if_pos c1]
  rw [if_neg c1, if_neg c1]
  by_cases c2 : k = 51
  · rw [if_pos c2, if_pos c2]
  rw [if_neg c2, if_neg c2]
  by_cases c3 : k = 33
  · rw [if_pos c3, if_pos (.inl c3)]
  rw [if_neg c3]
  by_cases c4 : k = 37
  · rw [if_pos c4, if_pos (.inr c4)]
  rw [if_neg c4, if_neg (show ¬ (k = 33 ∨ k = 37) by omega)]
  by_cases c5 : k = 34
  · rw [if_pos c5, if_pos (.inl c5)]
  rw [if_neg c5]
  by_cases c6 : k = 38
  · rw [if_pos c6, if_pos (by omega)]
  rw [if_neg c6]
  by_cases c7 : k = 44
  · rw [if_pos c7, if_pos (by omega)]
  rw [if_neg c7]
  by_cases c8 : k = 45
  · rw [if_pos c8, if_pos (by omega)]
  rw [if_neg c8, if_neg (show ¬ (k = 34 ∨ k = 38 ∨ k = 44 ∨ k = 45) by omega)]
theorem t_kSec (h : tX s u X g n) (hS0 : 0 ≤ S) : ∃ r, m_X40_isKindOf u k S = some r ∧ (r = 0 ∨ r = 1) ∧ (r = 1 ↔ kSec k S) := by
  rw [em_X40_isKindOf]; unfold dm_X40_isKindOf kSec
  rw [Wz_0, Wz_1]
  obtain ⟨k1, k2⟩ := t_isKind (s := u) k
  by_cases c : kOK k
  · rw [k1 c, Option.bind_some, if_neg (by decide)]
    by_cases c1 : S = 0
    · rw [if_pos c1]; exact ⟨1, rfl, .inr rfl, fun _ => ⟨c, .inl c1⟩, fun _ => rfl⟩
    rw [if_neg c1]
    by_cases c2 : k = 1
    · rw [if_pos c2]; exact ⟨1, rfl, .inr rfl, fun _ => ⟨c, .inr (.inl c2)⟩, fun _ => rfl⟩
    rw [if_neg c2]
    by_cases c3 : k < 33
    · rw [if_pos c3]; exact ⟨0, rfl, .inl rfl, fun q => absurd q (by decide), fun q => by omega⟩
    rw [if_neg c3]
    by_cases c4 : 39 < k
    · rw [if_pos c4]; exact ⟨0, rfl, .inl rfl, fun q => absurd q (by decide), fun q => by omega⟩
    rw [if_neg c4]; exact ⟨1, rfl, .inr rfl, fun _ => ⟨c, .inr (.inr (by omega))⟩, fun _ => rfl⟩
  · rw [k2 c, Option.bind_some, if_pos rfl]; exact ⟨0, rfl, .inl rfl, fun q => absurd q (by decide), fun q => absurd q.1 c⟩
theorem t_mv1 (h : tX s u X g n) (S0 : 0 ≤ S) (S1 : S < 3) (x0 : 0 ≤ x) (x1 : x < sR g (5 + S.toNat) / 12) : jE (m_X40_relocationFault u X S (fR g (5 + S.toNat) + 12 * x)) (ckR (tOK fun t => t = u) (tBD s X) (Lmv g S.toNat x)) := by
  have hn := h.1.n8
  have hr := h.2.1.1
  have hl := nSy_lo h.2.2.2
  obtain ⟨p1, p2, p3, p4, p5⟩ := h.2.2.2.part (k := 5 + S.toNat) (by omega)
  have sec := h.2.2.2.sec (k := S.toNat) (by omega)
  unfold Lmv
  generalize hP : fR g (5 + S.toNat) + 12 * x = P at *
  have h52 := p4 (by omega)
  have eS : ((S.toNat : Nat) : Int) = S := nt S0
  have v0 := r4_lo h.1.2.1 (p := P) (by omega) (by omega)
  obtain ⟨m1, m2, m3⟩ := r4_m h.1.2.1 (p := P + 4) (by omega) (by omega)
  have v4 := r4_lo h.1.2.1 (p := P + 4) (by omega) (by omega)
  have v8 := r4_lo h.1.2.1 (p := P + 8) (by omega) (by omega)
  have hb := h.1.2.1 (P + 4) (by omega) (by omega)
  rw [em_X40_relocationFault]; unfold dm_X40_relocationFault
  rw [W32_in (z := P + 4) (by omega) (by omega), t_r4 h.C (by omega) (by omega), Option.bind_some, jdv_in (by decide), Option.bind_some, L_rem_n (by omega) (by omega) (by omega) (by omega), m1]
  simp only [jlet]
  rw [l2i_p, W32_in (by omega) (by omega), jdv_in (by decide), Option.bind_some, L_div_n (by omega) (by omega) (by omega) (by omega)]
  obtain ⟨r, er, r01, hrK⟩ := t_kSec (k := g (P + 4)) h S0
  rw [er, Option.bind_some, eS]
  refine tk_no (by rw [← hrK]; omega) (t_fault hr (by omega)) fun c1 => ?_
  rw [h.si, Option.bind_some]
  have e73 : ∀ (Q : Prop) M, ¬ Q → jE (u_X40_relocationFault_73 u X P) (ckR (tOK fun t => t = u) (tBD s X) ((Q, 30, P + 4) :: M)) := fun Q M hQ => jk_no hQ (by
    rw [eu_X40_relocationFault_73]; unfold du_X40_relocationFault_73
    rw [W32_in (z := P + 4) (by omega) (by omega)]
    exact t_fault hr (by omega))
  simp only [L_cmp_lt, L_cmp_0]
  by_cases c2 : r4 g (P + 4) / 256 < nSy g
  rotate_left
  · rw [if_neg c2]; exact e73 _ _ fun z => c2 z.1
  rw [if_pos c2, e_X40_isAlone, Option.bind_some]
  have go : ∀ y0 y1 : Int, (y1 = if g (P + 4) = 43 ∨ g (P + 4) = 51 then 1 else 0) → (y0 = if r4 g (P + 4) / 256 = 0 then 1 else 0) → jE (u_X40_relocationFault_70 u X S P (g (P + 4)) y0 y1) (ckR (tOK fun t => t = u) (tBD s X) [(r4 g (P + 4) / 256 < nSy g ∧ (r4 g (P + 4) / 256 = 0 ↔ (g (P + 4) = 43 ∨ g (P + 4) = 51)), 30, P + 4),
     (g (P + 4) = 43 → r4 g (P + 8) ≤ 62 ∧ r4 g (P + 8) % 2 = 0, 31, P + 8), (r4 g P + kW (g (P + 4)) (r4 g (P + 8)) ≤ sR g S.toNat, 32, P)]) := by
    intro y0 y1 h1 h0
    have hy : y1 = y0 ↔ (r4 g (P + 4) / 256 = 0 ↔ (g (P + 4) = 43 ∨ g (P + 4) = 51)) := by
      rw [h0, h1]
      by_cases a1 : r4 g (P + 4) / 256 = 0 <;> by_cases a2 : g (P + 4) = 43 ∨ g (P + 4) = 51 <;> simp only [a1, a2, eq_self, and_false, false_and, and_true, true_and, if_true, if_false, reduceIte, Int.reduceEq, Int.reduceLT, Int.reduceLE, Int.reduceNeg, not_false_eq_true, Option.bind_some, jls, iff_true, iff_false, true_iff, false_iff, not_true_eq_false] <;> decide
    rw [eu_X40_relocationFault_70]; unfold du_X40_relocationFault_70
    by_cases c3 : y1 = y0
    rotate_left
    · rw [if_neg c3]; exact e73 _ _ fun z => c3 (hy.mpr z.2)
    rw [if_pos c3]
    refine jk_ok ⟨c2, hy.mp c3⟩ ?_
    rw [W32_in (z := P + 8) (by omega) (by omega), t_r4 h.C (by omega) (by omega), Option.bind_some]
    have last : (g (P + 4) = 43 → r4 g (P + 8) ≤ 62 ∧ r4 g (P + 8) % 2 = 0) → jE (u_X40_relocationFault_119 u X S P (g (P + 4)) (r4 g (P + 8))) (ckR (tOK fun t => t = u) (tBD s X) [(r4 g P + kW (g (P + 4)) (r4 g (P + 8)) ≤ sR g S.toNat, 32, P)]) := fun c4 => by
      have hk : kW (g (P + 4)) (W32 (r4 g (P + 8))) = kW (g (P + 4)) (r4 g (P + 8)) := kW_a fun z => W32_in (by have := c4 z; omega) (by have := c4 z; omega)
      have hk2 : 0 ≤ kW (g (P + 4)) (r4 g (P + 8)) ∧ kW (g (P + 4)) (r4 g (P + 8)) ≤ 4294967296 := by
        unfold kW
        repeat' split
        all_goals omega
      rw [eu_X40_relocationFault_119]; unfold du_X40_relocationFault_119
      rw [wd_t, Option.bind_some, l2i_p, hk, t_r4 h.C (by omega) (by omega), Option.bind_some, h.by S0 (by omega), Option.bind_some, W64_in (by omega) (by omega)]
      exact tk_no (by rw [L_cmp_gt]; omega) (t_fault hr (by omega)) fun _ => jk_end (jS_end ⟨rfl, rfl⟩)
    by_cases c5 : g (P + 4) = 43
    · rw [if_pos c5, e_X40_isSkip, Option.bind_some, L_rem_n (by omega) (by omega) (by omega) (by omega), jz]
      by_cases c6 : r4 g (P + 8) ≤ 62 ∧ r4 g (P + 8) % 2 = 0
      · rw [if_pos (by omega)]
        exact jk_ok (fun _ => c6) (last fun _ => c6)
      · rw [if_neg (by omega)]
        exact jk_no (fun z => c6 (z c5)) (t_fault hr (by omega))
    · rw [if_neg c5]
      exact jk_ok (fun z => absurd z c5) (last fun z => absurd z c5)
  by_cases c3 : r4 g (P + 4) / 256 = 0
  · rw [if_pos c3]; exact go 1 _ rfl (by rw [if_pos c3])
  · rw [if_neg c3]; exact go 0 _ rfl (by rw [if_neg c3])
theorem t_starts (h : tX s u X g n) : jE (m_X40_startFaults u X) (ckR (tOK fun t => t = u) (tBD s X) (Lsts g)) := by
  have hn := h.1.n8
  have hr := h.2.1.1
  obtain ⟨p1, p2, p3, p4, p5⟩ := h.2.2.2.part (k := 4) (by omega)
  obtain ⟨q1, q2, q3, q4, q5⟩ := h.2.2.2.part (k := 0) (by omega)
  obtain ⟨s1, s2⟩ := h.2.2.2.s4
  have sec := h.2.2.2.sec (k := 0) (by omega)
  have h52 := h.2.2.2.1.1
  unfold Lsts
  rw [em_X40_startFaults]; unfold dm_X40_startFaults
  rw [h.by (by omega) (by omega), Option.bind_some, show (4 : Int).toNat = 4 from rfl, l2i_p, W32_in (by omega) (by omega), jdv_in (by decide), Option.bind_some, I_div_n (by omega) (by omega) (by omega) (by omega), eu_X40_startFaults_13]; unfold du_X40_startFaults_13
  have hcn := fun k k0 => cn_lo (P := isHf g) (x := k) k0
  refine jk_for (Lst g) (fun _ w => w = u) (fun k => [X, cn (isHf g) k, sR g 4 / 2, k]) 0 (sR g 4 / 2) (by omega) rfl (fun k w k0 k1 _ ew => ?_) fun w ew hG => ?_
  · subst ew
    show jE (b_X40_startFaults_13 w X (cn (isHf g) k) (sR g 4 / 2) k) _
    unfold b_X40_startFaults_13 Lst
    have v2 := r2_lo h.1.2.1 (p := fR g 4 + 2 * k) (by omega) (by omega)
    have cl := hcn k k0
    rw [if_pos k1, h.fr (by omega) (by omega) (by omega), Option.bind_some, show (4 : Int).toNat = 4 from rfl]
    simp only [jlet]
    rw [W32_in (z := 2 * k) (by omega) (by omega), W32_in (z := fR g 4 + 2 * k) (by omega) (by omega), t_r2 h.C (by omega) (by omega), Option.bind_some, jdv_in (by decide), Option.bind_some, I_rem_n (by omega) (by omega) (by omega) (by omega)]
    have no : ∀ Q : Prop, ¬ Q → jE (jinr (u_X40_startFaults_73 w X (fR g 4 + 2 * k)) : Option ((jS × List Int) ⊕ (jS × Int))) (ckR (fun x => ∃ t, x = .inl (t, [X, cn (isHf g) (k + 1), sR g 4 / 2, k + 1]) ∧ t = w) (fun f p x => ∃ r, x = .inr r ∧ tBD s X f p r) [(Q, 33, fR g 4 + 2 * k)]) := fun Q hQ => jk_no hQ (by
      rw [eu_X40_startFaults_73]; unfold du_X40_startFaults_73
      exact t_faultR hr (by omega))
    -- a good one
    have ok : (r2 g (fR g 4 + 2 * k) % 2 = 0 ∧ (k = 0 ∨ r2 g (fR g 4 + 2 * (k - 1)) < r2 g (fR g 4 + 2 * k))) → jE (u_X40_startFaults_61 w X (cn (isHf g) k) (sR g 4 / 2) k (fR g 4 + 2 * k) (r2 g (fR g 4 + 2 * k))) (ckR (fun x => ∃ t, x = .inl (t, [X, cn (isHf g) (k + 1), sR g 4 / 2, k + 1]) ∧ t = w) (fun f p x => ∃ r, x = .inr r ∧ tBD s X f p r) [(r2 g (fR g 4 + 2 * k) < sR g 0 ∧ r2 g (fR g 4 + 2 * k) % 2 = 0 ∧ (k = 0 ∨ r2 g (fR g 4 + 2 * (k - 1)) < r2 g (fR g 4 + 2 * k)), 33, fR g 4 + 2 * k)]) := fun hc => by
      rw [eu_X40_startFaults_61]; unfold du_X40_startFaults_61
      rw [h.by (by omega) (by omega), Option.bind_some, show (0 : Int).toNat = 0 from rfl]
      simp only [L_cmp_lt]
      by_cases c1 : r2 g (fR g 4 + 2 * k) < sR g 0
      rotate_left
      · rw [if_neg c1]; exact no _ fun z => c1 z.1
      have e107 : ∀ v, 0 ≤ v → v ≤ 1 → u_X40_startFaults_107 w X (sR g 4 / 2) k v (cn (isHf g) k) = some (.inl (w, [X, cn (isHf g) k + v, sR g 4 / 2, k + 1])) := fun v v0 v1 => by
        rw [eu_X40_startFaults_107]; unfold du_X40_startFaults_107
        simp only [jlet]
        rw [W32_in (z := cn (isHf g) k + v) (by omega) (by omega), W32_in (by omega) (by omega)]
      rw [if_pos c1, h.fr (by omega) (by omega) (by omega), Option.bind_some, show (0 : Int).toNat = 0 from rfl, W32_in (z := fR g 0 + r2 g (fR g 4 + 2 * k)) (by omega) (by omega), t_u1 h.C (by omega) (by omega), Option.bind_some, e_X40_isShort, Option.bind_some, jz, e107 1 (by omega) (by omega), e107 0 (by omega) (by omega)]
      have i3 : I_and (g (fR g 0 + r2 g (fR g 4 + 2 * k))) 3 = g (fR g 0 + r2 g (fR g 4 + 2 * k)) % 4 := I_and_m _ 2 (by decide)
      have hs := cn_s (P := isHf g) (x := k) k0
      rw [i3]
      refine jk_ok ⟨c1, hc⟩ (jk_end ?_)
      by_cases c2 : g (fR g 0 + r2 g (fR g 4 + 2 * k)) % 4 = 3
      · rw [if_neg (fun z => z c2)]
        rw [if_neg (show ¬ isHf g k = true from fun z => of_decide_eq_true z c2)] at hs
        rw [hs]
        exact jS_end ⟨w, rfl, rfl⟩
      · rw [if_pos c2]
        rw [if_pos (show isHf g k = true from decide_eq_true c2)] at hs
        rw [hs]
        exact jS_end ⟨w, rfl, rfl⟩
    by_cases c1 : r2 g (fR g 4 + 2 * k) % 2 = 0
    rotate_left
    · rw [if_neg c1]; exact no _ fun z => c1 z.2.1
    rw [if_pos c1]
    by_cases c2 : 0 < k
    · rw [if_pos c2, W32_in (by omega) (by omega), show fR g 4 + 2 * k - 2 = fR g 4 + 2 * (k - 1) by omega, t_r2 h.C (by omega) (by omega), Option.bind_some]
      by_cases c3 : r2 g (fR g 4 + 2 * (k - 1)) < r2 g (fR g 4 + 2 * k)
      · rw [if_pos c3]; exact ok ⟨c1, .inr c3⟩
      · rw [if_neg c3]; exact no _ fun z => by rcases z.2.2 with z | z <;> omega
    · rw [if_neg c2]; exact ok ⟨c1, .inl (by omega)⟩
  · subst ew
    show jE (b_X40_startFaults_13 w X (cn (isHf g) (sR g 4 / 2)) (sR g 4 / 2) (sR g 4 / 2)) _
    unfold b_X40_startFaults_13
    rw [if_neg (by omega), eu_X40_startFaults_115]; unfold du_X40_startFaults_115
    refine jS_inr (jE_mono (?_ : jE _ (ckR (tOK fun t => t = w) (tBD s X) _)) fun r hr => ⟨r, rfl, hr⟩)
    rw [t_r4 h.C (by omega) (by omega), Option.bind_some]
    have cl := hcn (sR g 4 / 2) (by omega)
    have e1 : (if L_cmp (r4 g 36) 1 = 0 then u_X40_startFaults_131 w X (cn (isHf g) (sR g 4 / 2)) 1 else u_X40_startFaults_131 w X (cn (isHf g) (sR g 4 / 2)) 0) = if (r4 g 36 = 1 ↔ 0 < cn (isHf g) (sR g 4 / 2)) then some (w, 0) else (m_X40_fault w X 34 36).bind fun q => some (q.1, q.2) := by
      simp only [eu_X40_startFaults_131, du_X40_startFaults_131, eu_X40_startFaults_140, du_X40_startFaults_140, L_cmp_0]
      by_cases c1 : r4 g 36 = 1 <;> by_cases c2 : 0 < cn (isHf g) (sR g 4 / 2) <;> simp only [c1, c2, eq_self, and_false, false_and, and_true, true_and, if_true, if_false, reduceIte, Int.reduceEq, Int.reduceLT, Int.reduceLE, Int.reduceNeg, not_false_eq_true, Option.bind_some, jls, iff_true, iff_false, true_iff, false_iff, not_true_eq_false]
      all_goals rfl
    rw [e1]
    exact tk_if Iff.rfl (t_fault hr (by omega)) fun _ => jk_end (jS_end ⟨rfl, rfl⟩)
end jTread5
