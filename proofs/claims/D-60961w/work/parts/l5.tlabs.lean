/-! the linker: the twin puts all labels *-/
set_option maxRecDepth 100000
section jLta
variable {s t u w : jS} {a b k m n p v l x c f i H B C S K : Int} {O : Int → Int → Int → Int → Int} {d d' e z y : Int → Int → Int} {G A B' : Int → Int} {T T' : Int → Prop}
/-- labels with keys below K that have a place -/
def lTt (S : Int) (O : Int → Int → Int → Int → Int) (e d z y : Int → Int → Int) (G : Int → Int) (K : Int) (x : Int) : Prop := (0 ≤ x ∧ x < d 0 2) ∧ kyO O e (y 1 x) < K ∧ ∃ k a, lT S O e d z G (kyO O e (y 1 x)) k a
theorem ky_lo (gv : gFv S O e) (hX : vsy S O x) : 0 ≤ kyO O e x ∧ kyO O e x < 1200 := by
  have hx := hX.1
  have e6 := gv.1.2.1
  unfold kyO
  by_cases c : sy O x 3 = 0
  · rw [if_pos c]; omega
  · have := gv.2.2 x ⟨hX, c⟩
    rw [if_neg c]; omega
theorem lpR.fr (h : lpR H S O t d z e G) (F : ∀ k, jf u 1000 (H + 202) k = jf t 1000 (H + 202) k) : lpR H S O u d z e G := ⟨fun v j v0 v1 hv j0 j1 => by
  obtain ⟨⟨q1, q2, q3⟩, q4⟩ := h.1 v j v0 v1 hv j0 j1
  exact ⟨⟨by rw [F]; exact q1, q2, q3⟩, q4⟩, h.2.1, h.2.2⟩
theorem tPz.ls (h : tPz H t d z) (g : dLs d d') (F : tbW (H + 93) t u) : tPz H u d' z := (h.cg (fun a k a0 a1 => F.2 _ _ _ (by omega) (by omega))).dd (g _ _ (by decide) (by decide)) (g _ _ (by decide) (by decide)) (fun p => g _ _ (by decide) (by decide)) fun p => g _ _ (by decide) (by decide)
theorem t_labels (hh : LB0 C H S O s t e) (yo : yOK S O e d y) (ty : tLz H t y) (vl : vLy d) (hy : tLs t (H + 93) d) (hz : tPz H t d z) (hR : lpR H S O t d z e G) (hG : ∀ g, 0 ≤ g → g < e 0 0 → e 3 g = 2 → jf t 1000 (H + 195) g = G g) : ∃ u, u_X37_layParts_191 t H = some (u, 1) ∧ tLs u (H + 93) (lPx S O e d z y G (lTb S O e d z y G (d 0 2))) ∧ tbW (H + 93) t u := by
  have d2 := vl.2.2.1
  obtain ⟨hk, ⟨-, hgt, gv⟩, -, hcd⟩ := id hh
  rw [eu_X37_layParts_191]; unfold du_X37_layParts_191
  rw [eu_X37_layParts_193]; unfold du_X37_layParts_193
  obtain ⟨u, eu, h1, h2, h3⟩ := loopTo (C := jc2 b_X37_layParts_193) (fun K w => vLy (lPx S O e d z y G (lTt S O e d z y G K)) ∧ tLs w (H + 93) (lPx S O e d z y G (lTt S O e d z y G K)) ∧ tbW (H + 93) t w) (fun K => [H, K]) 0 1200 (by decide) (s := t) (F := fun w => some (w, 1)) ⟨by
    unfold lPx; rw [dPs_no fun x q => by
      have h0 := q.1
      have := (ky_lo gv (yo.2 x h0.1 h0.2).1).1
      have := q.2.1
      omega]; exact vl, by
    unfold lPx; rw [dPs_no fun x q => by
      have h0 := q.1
      have := (ky_lo gv (yo.2 x h0.1 h0.2).1).1
      have := q.2.1
      omega]; exact hy, .rfl⟩ (fun K w K0 K1 ⟨j1, j2, j3⟩ => by
    show ∃ w', b_X37_layParts_193 w H K = some (.inl (w', [H, K + 1])) ∧ _
    unfold b_X37_layParts_193
    have ls : dLs d (lPx S O e d z y G (lTt S O e d z y G K)) := dPs_ls
    have e2 := ls 0 2 (by decide) (by decide)
    have J204 : jlt w 1000 (H + 204) 1200 K = some (y 0 K) := by rw [jlt_in K0 K1, j3.2 _ _ _ (by omega) (by omega), ty K K0 K1]
    have e215 : ∀ w', u_X37_layParts_215 w' H K = some (.inl (w', [H, K + 1])) := fun w' => by
      rw [eu_X37_layParts_215]; unfold du_X37_layParts_215
      rw [W32_in (by omega) (by omega)]
    rw [if_pos K1, J204, Option.bind_some]
    by_cases c : y 0 K = -1
    · rw [if_pos c, e215]
      refine ⟨w, rfl, ?_⟩
      have st : lPx S O e d z y G (lTt S O e d z y G (K + 1)) = lPx S O e d z y G (lTt S O e d z y G K) := dPs_cg fun x => ⟨fun q => ⟨q.1, by
        by_cases ck : kyO O e (y 1 x) = K
        · have := (yo.2 x q.1.1 q.1.2).2
          rw [ck, c] at this
          have := q.1.1; omega
        · have := q.2.1; omega, q.2.2⟩, fun q => ⟨q.1, by have := q.2.1; omega, q.2.2⟩⟩
      rw [st]; exact ⟨j1, j2, j3⟩
    · rw [if_neg c]
      obtain ⟨⟨l0, l1⟩, ek⟩ : (0 ≤ y 0 K ∧ y 0 K < d 0 2) ∧ kyO O e (y 1 (y 0 K)) = K := by
        rcases yo.1 K K0 K1 with q | q
        · exact absurd q c
        · exact q
      obtain ⟨l, hl⟩ : ∃ l, l = y 0 K := ⟨_, rfl⟩
      rw [← hl] at l0 l1 ek
      have hX := (yo.2 l l0 l1).1
      have hh1 := hh.bw (cBW.rfl (C := C) (s := s)) (tbW.bw j3)
      have hR1 : lpR H S O w (lPx S O e d z y G (lTt S O e d z y G K)) z e G := (hR.ls ls).fr fun k => j3.2 _ _ _ (by omega) (by omega)
      obtain ⟨w', e', q, g'⟩ := t_putLab hh1.1 hh1.2.1.2.1 gv j1 j2 (hz.ls ls j3) hR1 (fun g g0 g1 g2 => by rw [j3.2 _ _ _ (by omega) (by omega)]; exact hG g g0 g1 g2) hX (l := l) (by rw [ek, j3.2 _ _ _ (by omega) (by omega), ty K K0 K1, hl]) l0 (by rw [e2]; exact l1)
      rw [ek] at e'
      rw [e', Option.bind_some, e215]
      refine ⟨w', rfl, ?_⟩
      have tail : tbW (H + 93) t w' := j3.trans g'
      rcases q with ⟨k, a, a1, a2, a3⟩ | ⟨b1, b2⟩
      · have a1' := (lT_ls ls).mp a1
        have one := lT_one hk gv hR hX a1' (lQ_of a1')
        have st : lPx S O e d z y G (lTt S O e d z y G (K + 1)) = dLp (lPx S O e d z y G (lTt S O e d z y G K)) l k a := by
          rw [one.1, one.2]
          exact dPs_st fun x => ⟨fun q => by
            by_cases ck : kyO O e (y 1 x) = K
            · have := (yo.2 x q.1.1 q.1.2).2
              rw [ck] at this
              exact .inr (by omega)
            · exact .inl ⟨q.1, by have := q.2.1; omega, q.2.2⟩, fun q => by
            rcases q with q | q
            · exact ⟨q.1, by have := q.2.1; omega, q.2.2⟩
            · rw [q]; exact ⟨⟨l0, l1⟩, by omega, k, a, a1'⟩⟩
        rw [st]; exact ⟨a2, a3, tail⟩
      · have st : lPx S O e d z y G (lTt S O e d z y G (K + 1)) = lPx S O e d z y G (lTt S O e d z y G K) := dPs_cg fun x => ⟨fun q => ⟨q.1, by
          by_cases ck : kyO O e (y 1 x) = K
          · have := (yo.2 x q.1.1 q.1.2).2
            rw [ck] at this
            have : x = l := by omega
            rw [this] at q
            obtain ⟨-, -, k, a, q⟩ := q
            exact absurd ((lT_ls ls).mpr q) (b1 k a)
          · have := q.2.1; omega, q.2.2⟩, fun q => ⟨q.1, by have := q.2.1; omega, q.2.2⟩⟩
        rw [st]; exact ⟨j1, b2, tail⟩) (fun w ⟨j1, j2, j3⟩ => by
    show b_X37_layParts_193 w H 1200 = _
    unfold b_X37_layParts_193
    rw [if_neg (by decide), Wz_1])
  refine ⟨u, eu, ?_, h3⟩
  have st : lPx S O e d z y G (lTt S O e d z y G 1200) = lPx S O e d z y G (lTb S O e d z y G (d 0 2)) := dPs_cg fun x => ⟨fun q => ⟨q.1, q.2.2⟩, fun q => ⟨q.1, (ky_lo gv (yo.2 x q.1.1 q.1.2).1).2, q.2⟩⟩
  rw [st] at h2; exact h2
end jLta
