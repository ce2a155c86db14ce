/-! the linker: all names kept, both sides *-/
set_option maxRecDepth 100000
section jLkq
variable {s t u w s0 t0 s' t' : jS} {a b k m n o p q v l x y c f g j A H C S X : Int} {O : Int → Int → Int → Int → Int} {d e z : Int → Int → Int} {i i' : Int → Int → Int → Int} {G B : Int → Int} {QQ : jS × Bool × Int → jS × Int → Prop}
theorem x_keep (h : LZD C H S O s t e d z G) (hK : ∀ a, C ≤ a → a < C + 15464 → ¬ (70 ≤ jK s a ∧ jK s a ≤ 77)) : ∃ u w, m_X35_keep s (C + 4275) = some (u, 0) ∧ m_X37_keepGlobals t H = some (w, 0) ∧ cKW C s u ∧ tKW H t w ∧ kpR C H u w ∧ ∀ k, ¬ k = 45 → jf u 39 (C + 4275) k = jf s 39 (C + 4275) k := by
  obtain ⟨hk, hgc, hgt, hv⟩ := h.2.2.2.2.2.1
  have e0 := hv.1.1
  have e6 := hv.1.2.1
  obtain ⟨s1, E1⟩ : ∃ s1, s1 = jp s 39 (C + 4275) 45 (e 0 0) := ⟨_, rfl⟩
  obtain ⟨f1, p1, -⟩ := jpF E1
  obtain ⟨t1, E2⟩ : ∃ t1, t1 = jp t 41 H 109 (e 0 0) := ⟨_, rfl⟩
  obtain ⟨f2, p2, -⟩ := jpF E2
  have k1 : cKW C s s1 := by rw [E1]; exact cKW.rfl.jp (by omega)
  have l1 : tKW H t t1 := by rw [E2]; exact tKW.rfl.jp (by omega)
  have key : jE2 (u_X35_keep_10 s1 (C + 4275) 0) (u_X37_keepGlobals_10 t1 H 0) fun r q => r.2 = 0 ∧ q.2 = 0 ∧ cKW C s r.1 ∧ tKW H t q.1 ∧ (jf r.1 39 (C + 4275) 45 = e 0 0 ∧ jf q.1 41 H 109 = e 0 0) ∧ kpG C H r.1 q.1 (e 0 0) ∧ ∀ k, ¬ k = 45 → jf r.1 39 (C + 4275) k = jf s 39 (C + 4275) k := by
    rw [eu_X35_keep_10, eu_X37_keepGlobals_10]; unfold du_X35_keep_10 du_X37_keepGlobals_10
    refine jforE (C := jc2 b_X35_keep_10) (D := jc2 b_X37_keepGlobals_10) (fun g u w => cKW C s u ∧ tKW H t w ∧ (jf u 39 (C + 4275) 45 = e 0 0 ∧ jf w 41 H 109 = e 0 0) ∧ kpG C H u w g ∧ ∀ k, ¬ k = 45 → jf u 39 (C + 4275) k = jf s 39 (C + 4275) k) (fun g => [C + 4275, g]) (fun g => [H, g]) 0 (e 0 0) e0 ⟨k1, l1, ⟨p1, p2⟩, fun g g0 g1 => by omega, fun k hk => f1 _ _ _ (by omega)⟩ (fun g u w g0 g1 ⟨j1, j2, ⟨j3, j4⟩, j5, j6⟩ => ?_) (fun u w ⟨j1, j2, j3, j5⟩ => ?_)
    · have r20 : jf u 39 (C + 4275) 20 = e 0 0 := by rw [j1.2 _ _ _ (by omega)]; exact hgc.1
      have r81 : jf w 41 H 81 = e 0 0 := by rw [j2.2 _ _ _ (by omega)]; exact hgt.1
      obtain ⟨u', w', q1, q2, q3, q4, F, F', q5, q6, q7⟩ := x_keepG (h.zw hK j1.zw j2.zw) (fun a a0 a1 => by rw [j1.1.1]; exact hK a a0 a1) g0 g1 r20 r81
      refine .inl ⟨u', w', q1, q2, j1.trans q3, j2.trans q4, ⟨by rw [F _ _ _ (by omega) (by omega)]; exact j3, by rw [F' _ _ _ (by omega) (by omega)]; exact j4⟩, fun g' g0' g1' => ?_, fun k hk => by rw [F _ _ _ (by omega) (by omega)]; exact j6 k hk⟩
      by_cases c : g' = g
      · rw [c]; exact ⟨q5, q6, q7⟩
      · obtain ⟨z1, z2, z3⟩ := j5 g' g0' (by omega)
        have e206 : jf w' 1000 (H + 206) g' = jf w 1000 (H + 206) g' := F' _ _ _ (by omega) (by omega)
        rw [e206, F _ _ _ (by omega) (by omega), F _ (C + 4275 + 40) _ (by omega) (by omega), F' _ (H + 208) _ (by omega) (by omega)]
        refine ⟨z1, fun i i0 i1 => ?_, z3⟩
        rw [F _ _ _ (by omega) (by omega), F' _ _ _ (by omega) (by omega)]; exact z2 i i0 i1
    · refine ⟨some (u, 0), some (w, 0), ?_, ?_, jE2_some.mpr ⟨rfl, rfl, j1, j2, j3, j5⟩⟩
      · show b_X35_keep_10 u (C + 4275) (e 0 0) = _
        unfold b_X35_keep_10
        have r20 : jf u 39 (C + 4275) 20 = e 0 0 := by rw [j1.2 _ _ _ (by omega)]; exact hgc.1
        rw [r20, if_neg (Int.lt_irrefl _)]
      · show b_X37_keepGlobals_10 w H (e 0 0) = _
        unfold b_X37_keepGlobals_10
        have r81 : jf w 41 H 81 = e 0 0 := by rw [j2.2 _ _ _ (by omega)]; exact hgt.1
        rw [r81, if_neg (Int.lt_irrefl _)]
  obtain ⟨r, q, er, eq, q1, q2, q3, q4, ⟨q5, q6⟩, q7, q8⟩ := jE2_get key
  refine ⟨r.1, q.1, ?_, ?_, q3, q4, ⟨e 0 0, q5, q6, e0, e6, q7⟩, q8⟩
  · rw [em_X35_keep]; unfold dm_X35_keep
    simp only [jls]
    rw [hgc.1, ← E1, er, ← q1]
  · rw [em_X37_keepGlobals]; unfold dm_X37_keepGlobals
    simp only [jls]
    rw [hgt.1, ← E2, eq, ← q2]
end jLkq
