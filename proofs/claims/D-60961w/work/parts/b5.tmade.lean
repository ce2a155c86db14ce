/-! the twin's object that is made -/
section jTmade
variable {s t u : jS} {b O X y z lo n x r : Int} {o : Int → Int → Int → Int} {w w' d : Int → Int}
theorem vNm.at (v : vNm d) : 0 ≤ d 5 ∧ d 5 ≤ 16 := ⟨v.1, v.2.1⟩
theorem tNm.keep (h : tNm s X x w) (v : vNm w) (e : ∀ k, 16 * x ≤ k → k < 16 * x + 16 → jf t 1000 (X + 12) k = jf s 1000 (X + 12) k) (e' : jf t 1000 (X + 11) x = jf s 1000 (X + 11) x) : tNm t X x w := ⟨by rw [e']; exact h.1, fun i i0 i1 => by rw [e _ (by omega) (by have := v.at; omega)]; exact h.2 i i0 i1⟩
theorem tSy.keep (h : tSy s X x w) (v : vNm w) (e : ∀ k, 16 * x ≤ k → k < 16 * x + 16 → jf t 1000 (X + 12) k = jf s 1000 (X + 12) k) (e' : ∀ a, X + 6 ≤ a → a < X + 12 → jf t 1000 a x = jf s 1000 a x) : tSy t X x w := by
  obtain ⟨h1, h2, h3, h4, h5, h6⟩ := h
  exact ⟨by rw [e' _ (by omega) (by omega)]; exact h1, by rw [e' _ (by omega) (by omega)]; exact h2, by rw [e' _ (by omega) (by omega)]; exact h3, by rw [e' _ (by omega) (by omega)]; exact h4, by rw [e' _ (by omega) (by omega)]; exact h5, h6.keep v e (e' _ (by omega) (by omega))⟩
theorem tRl.keep (h : tRl s X x w) (e : ∀ a, X + 14 ≤ a → a < X + 19 → jf t 1000 a x = jf s 1000 a x) : tRl t X x w := by
  obtain ⟨h1, h2, h3, h4, h5⟩ := h
  exact ⟨by rw [e _ (by omega) (by omega)]; exact h1, by rw [e _ (by omega) (by omega)]; exact h2, by rw [e _ (by omega) (by omega)]; exact h3, by rw [e _ (by omega) (by omega)]; exact h4, by rw [e _ (by omega) (by omega)]; exact h5⟩
/-- all rows as they were -/
theorem tOb.keep (h : tOb s X r o) (e : ∀ a k, X + 1 ≤ a → a < X + 20 → jf t 1000 a k = jf s 1000 a k) (v : vOb o) : tOb t X r o := by
  obtain ⟨hA, hB, hN, hT, hY, hR⟩ := h
  refine ⟨fun x x0 x1 => ?_, fun x k x0 x1 k0 k1 => ?_, ⟨?_, ?_, ?_⟩, fun k k0 k1 => ?_, fun k k0 k1 => ?_, fun k k0 k1 => ?_⟩
  · rw [e _ _ (by omega) (by omega), e _ _ (by omega) (by omega)]; exact hA x x0 x1
  · rw [e _ _ (by omega) (by omega)]; exact hB x k x0 x1 k0 k1
  · rw [e _ _ (by omega) (by omega)]; exact hN.1
  · rw [e _ _ (by omega) (by omega)]; exact hN.2.1
  · rw [e _ _ (by omega) (by omega)]; exact hN.2.2
  · rw [e _ _ (by omega) (by omega)]; exact hT k k0 k1
  · exact (hY k k0 k1).keep (v.2.2.2.2.1 k k0 k1).2.2.2.2.2.2.2.2.2.1 (fun _ _ _ => e _ _ (by omega) (by omega)) (fun _ _ _ => e _ _ (by omega) (by omega))
  · exact (hR k k0 k1).keep (fun _ _ _ => e _ _ (by omega) (by omega))
/-- the draft -/
def tDr (t : jS) (X : Int) (d : Int → Int) : Prop := jf t 44 X 20 = d 5 ∧ ∀ i, 0 ≤ i → i < d 5 → jf t 1000 (X + 20) i = d (6 + i)
def tMk (t : jS) (X : Int) (o : Int → Int → Int → Int) (d : Int → Int) : Prop := tOb t X 0 o ∧ vOb o ∧ tDr t X d ∧ vNm d
theorem t_mletter {c : Int} (h : tMk s X o d) : ∃ d', (d 5 < 16 ∧ 33 ≤ c ∧ c ≤ 126 ∧ d' = dPut d c ∨ ¬ (d 5 < 16 ∧ 33 ≤ c ∧ c ≤ 126) ∧ d' = d) ∧ jE (m_X40_letter s X c) fun q => jFm s q.1 X 34 ∧ tMk q.1 X o d' := by
  obtain ⟨hO, hv, ⟨h1, h2⟩, hd⟩ := h
  have v := hd.at
  rw [em_X40_letter]; unfold dm_X40_letter
  rw [h1]
  by_cases c1 : d 5 < 16 ∧ 33 ≤ c ∧ c ≤ 126
  · refine ⟨_, .inl ⟨c1.1, c1.2.1, c1.2.2, rfl⟩, ?_⟩
    (repeat (first | with_reducible refine jS_pos (by omega) ?_ | with_reducible refine jS_neg (by omega) ?_ | with_reducible refine jS_posB (by omega) ?_ | with_reducible refine jS_negB (by omega) ?_ | with_reducible refine jS_some ?_ | with_reducible refine jS_ls ?_ | with_reducible refine jS_let ?_ | with_reducible refine jS_lt (by omega) (by omega) ?_ | with_reducible refine jS_st (by omega) (by omega) ?_ | with_reducible refine jS_ix (by omega) (by omega) ?_ | with_reducible refine jS_dv (by omega) ?_ | with_reducible refine jS_zb (by omega) ?_ | with_reducible refine jS_bb ?_ | with_reducible refine jS_inr ?_ | with_reducible refine jS_lsB ?_ | with_reducible refine jS_letB ?_ | with_reducible refine jS_ck0 (by omega) ?_ | with_reducible refine jS_ck0B (by omega) ?_ | rw [W32_in (by omega) (by omega)] | rw [W32_aL] | rw [W32_aR] | rw [W32_sL] | rw [W32_mR] | rw [jf_neg (by omega)] | rw [jf_pos (by omega)] | with_reducible refine jS_bb ?_))
    rw [h1]; (repeat (first | with_reducible refine jS_pos (by omega) ?_ | with_reducible refine jS_neg (by omega) ?_ | with_reducible refine jS_posB (by omega) ?_ | with_reducible refine jS_negB (by omega) ?_ | with_reducible refine jS_some ?_ | with_reducible refine jS_ls ?_ | with_reducible refine jS_let ?_ | with_reducible refine jS_lt (by omega) (by omega) ?_ | with_reducible refine jS_st (by omega) (by omega) ?_ | with_reducible refine jS_ix (by omega) (by omega) ?_ | with_reducible refine jS_dv (by omega) ?_ | with_reducible refine jS_zb (by omega) ?_ | with_reducible refine jS_bb ?_ | with_reducible refine jS_inr ?_ | with_reducible refine jS_lsB ?_ | with_reducible refine jS_letB ?_ | with_reducible refine jS_ck0 (by omega) ?_ | with_reducible refine jS_ck0B (by omega) ?_ | rw [W32_in (by omega) (by omega)] | rw [W32_aL] | rw [W32_aR] | rw [W32_sL] | rw [W32_mR] | rw [jf_neg (by omega)] | rw [jf_pos (by omega)] | with_reducible refine jS_bb ?_))
    have e5 : dPut d c 5 = d 5 + 1 := rfl
    refine jS_end ⟨by (repeat' (first | exact jFm.rfl | refine jFm.jp ?_ (by omega) (by omega))), hO.keep (fun a k a0 a1 => by (repeat (first | rw [jf_neg (by omega)] | rw [jf_pos (by omega)] | rw [ou_neg (by omega)] | rw [ou_pos (by omega)]))) hv, hv, ⟨by (repeat (first | rw [jf_neg (by omega)] | rw [jf_pos (by omega)] | rw [ou_neg (by omega)] | rw [ou_pos (by omega)])); rw [e5], fun i i0 i1 => ?_⟩, vPut hd c1.1 c1.2.1 c1.2.2⟩
    rw [e5] at i1
    unfold dPut
    rw [if_neg (by omega)]
    by_cases e : i = d 5
    · rw [if_pos (by omega)]; (repeat (first | rw [jf_neg (by omega)] | rw [jf_pos (by omega)] | rw [ou_neg (by omega)] | rw [ou_pos (by omega)]))
    · rw [if_neg (by omega)]; (repeat (first | rw [jf_neg (by omega)] | rw [jf_pos (by omega)] | rw [ou_neg (by omega)] | rw [ou_pos (by omega)])); exact h2 i i0 (by omega)
  · refine ⟨_, .inr ⟨c1, rfl⟩, ?_⟩
    by_cases c2 : c < 33
    · (repeat (first | with_reducible refine jS_pos (by omega) ?_ | with_reducible refine jS_neg (by omega) ?_ | with_reducible refine jS_posB (by omega) ?_ | with_reducible refine jS_negB (by omega) ?_ | with_reducible refine jS_some ?_ | with_reducible refine jS_ls ?_ | with_reducible refine jS_let ?_ | with_reducible refine jS_lt (by omega) (by omega) ?_ | with_reducible refine jS_st (by omega) (by omega) ?_ | with_reducible refine jS_ix (by omega) (by omega) ?_ | with_reducible refine jS_dv (by omega) ?_ | with_reducible refine jS_zb (by omega) ?_ | with_reducible refine jS_bb ?_ | with_reducible refine jS_inr ?_ | with_reducible refine jS_lsB ?_ | with_reducible refine jS_letB ?_ | with_reducible refine jS_ck0 (by omega) ?_ | with_reducible refine jS_ck0B (by omega) ?_ | rw [W32_in (by omega) (by omega)] | rw [W32_aL] | rw [W32_aR] | rw [W32_sL] | rw [W32_mR] | rw [jf_neg (by omega)] | rw [jf_pos (by omega)] | with_reducible refine jS_bb ?_))
      exact jS_end ⟨jFm.rfl, hO, hv, ⟨h1, h2⟩, hd⟩
    · by_cases c3 : 126 < c
      · (repeat (first | with_reducible refine jS_pos (by omega) ?_ | with_reducible refine jS_neg (by omega) ?_ | with_reducible refine jS_posB (by omega) ?_ | with_reducible refine jS_negB (by omega) ?_ | with_reducible refine jS_some ?_ | with_reducible refine jS_ls ?_ | with_reducible refine jS_let ?_ | with_reducible refine jS_lt (by omega) (by omega) ?_ | with_reducible refine jS_st (by omega) (by omega) ?_ | with_reducible refine jS_ix (by omega) (by omega) ?_ | with_reducible refine jS_dv (by omega) ?_ | with_reducible refine jS_zb (by omega) ?_ | with_reducible refine jS_bb ?_ | with_reducible refine jS_inr ?_ | with_reducible refine jS_lsB ?_ | with_reducible refine jS_letB ?_ | with_reducible refine jS_ck0 (by omega) ?_ | with_reducible refine jS_ck0B (by omega) ?_ | rw [W32_in (by omega) (by omega)] | rw [W32_aL] | rw [W32_aR] | rw [W32_sL] | rw [W32_mR] | rw [jf_neg (by omega)] | rw [jf_pos (by omega)] | with_reducible refine jS_bb ?_))
        exact jS_end ⟨jFm.rfl, hO, hv, ⟨h1, h2⟩, hd⟩
      · (repeat (first | with_reducible refine jS_pos (by omega) ?_ | with_reducible refine jS_neg (by omega) ?_ | with_reducible refine jS_posB (by omega) ?_ | with_reducible refine jS_negB (by omega) ?_ | with_reducible refine jS_some ?_ | with_reducible refine jS_ls ?_ | with_reducible refine jS_let ?_ | with_reducible refine jS_lt (by omega) (by omega) ?_ | with_reducible refine jS_st (by omega) (by omega) ?_ | with_reducible refine jS_ix (by omega) (by omega) ?_ | with_reducible refine jS_dv (by omega) ?_ | with_reducible refine jS_zb (by omega) ?_ | with_reducible refine jS_bb ?_ | with_reducible refine jS_inr ?_ | with_reducible refine jS_lsB ?_ | with_reducible refine jS_letB ?_ | with_reducible refine jS_ck0 (by omega) ?_ | with_reducible refine jS_ck0B (by omega) ?_ | rw [W32_in (by omega) (by omega)] | rw [W32_aL] | rw [W32_aR] | rw [W32_sL] | rw [W32_mR] | rw [jf_neg (by omega)] | rw [jf_pos (by omega)] | with_reducible refine jS_bb ?_))
        exact jS_end ⟨jFm.rfl, hO, hv, ⟨h1, h2⟩, hd⟩
theorem t_same (h : tNm s X x w) (h' : tNm s X y w') (v : vNm w) (v' : vNm w') (x0 : 0 ≤ x) (x1 : x < 200) (y0 : 0 ≤ y) (y1 : y < 200) : ∃ r, m_X40_isSameName s X x y = some r ∧ (r = 0 ∨ r = 1) ∧ (r = 1 ↔ sameNm w w') := by
  obtain ⟨h1, h2⟩ := h
  obtain ⟨g1, g2⟩ := h'
  have v1 := v.at
  have v2 := v'.at
  -- the loop with its flag
  have key : ∀ f0, (f0 = 0 ∨ f0 = 1) → (f0 = 1 → w 5 = w' 5) → jE (u_X40_isSameName_24 s X x y f0 0) fun r => (r = 0 ∨ r = 1) ∧ (r = 1 ↔ f0 = 1 ∧ ∀ i, 0 ≤ i → i < w 5 → w (6 + i) = w' (6 + i)) := by
    intro f0 hf hw
    rw [eu_X40_isSameName_24]; unfold du_X40_isSameName_24
    refine jS_forR (fun k f => (f = 0 ∨ f = 1) ∧ (f = 1 ↔ f0 = 1 ∧ ∀ i, 0 ≤ i → i < k → w (6 + i) = w' (6 + i))) (fun k f => [X, x, y, f, k]) 0 (w 5) v1.1 ⟨hf, fun e => ⟨e, fun i i0 i1 => by omega⟩, fun e => e.1⟩ (fun k f k0 k1 ⟨e1, e2⟩ => ?_) (fun f ⟨e1, e2⟩ => ?_)
    · show jE (b_X40_isSameName_24 s X x y f k) _
      unfold b_X40_isSameName_24
      (repeat (first | with_reducible refine jS_pos (by omega) ?_ | with_reducible refine jS_neg (by omega) ?_ | with_reducible refine jS_posB (by omega) ?_ | with_reducible refine jS_negB (by omega) ?_ | with_reducible refine jS_some ?_ | with_reducible refine jS_ls ?_ | with_reducible refine jS_let ?_ | with_reducible refine jS_lt (by omega) (by omega) ?_ | with_reducible refine jS_st (by omega) (by omega) ?_ | with_reducible refine jS_ix (by omega) (by omega) ?_ | with_reducible refine jS_dv (by omega) ?_ | with_reducible refine jS_zb (by omega) ?_ | with_reducible refine jS_bb ?_ | with_reducible refine jS_inr ?_ | with_reducible refine jS_lsB ?_ | with_reducible refine jS_letB ?_ | with_reducible refine jS_ck0 (by omega) ?_ | with_reducible refine jS_ck0B (by omega) ?_ | rw [W32_in (by omega) (by omega)] | rw [W32_aL] | rw [W32_aR] | rw [W32_sL] | rw [W32_mR] | rw [jf_neg (by omega)] | rw [jf_pos (by omega)] | with_reducible refine jS_bb ?_))
      by_cases c : f = 0
      · rw [if_pos c]
        (repeat (first | with_reducible refine jS_pos (by omega) ?_ | with_reducible refine jS_neg (by omega) ?_ | with_reducible refine jS_posB (by omega) ?_ | with_reducible refine jS_negB (by omega) ?_ | with_reducible refine jS_some ?_ | with_reducible refine jS_ls ?_ | with_reducible refine jS_let ?_ | with_reducible refine jS_lt (by omega) (by omega) ?_ | with_reducible refine jS_st (by omega) (by omega) ?_ | with_reducible refine jS_ix (by omega) (by omega) ?_ | with_reducible refine jS_dv (by omega) ?_ | with_reducible refine jS_zb (by omega) ?_ | with_reducible refine jS_bb ?_ | with_reducible refine jS_inr ?_ | with_reducible refine jS_lsB ?_ | with_reducible refine jS_letB ?_ | with_reducible refine jS_ck0 (by omega) ?_ | with_reducible refine jS_ck0B (by omega) ?_ | rw [W32_in (by omega) (by omega)] | rw [W32_aL] | rw [W32_aR] | rw [W32_sL] | rw [W32_mR] | rw [jf_neg (by omega)] | rw [jf_pos (by omega)] | with_reducible refine jS_bb ?_))
        rw [Wz_in e1]
        refine jS_end ⟨e1, fun q => by omega, fun q => ?_⟩
        have := e2.mpr ⟨q.1, fun i i0 i1 => q.2 i i0 (by omega)⟩
        omega
      · have hf1 : f = 1 := by omega
        obtain ⟨q1, q2⟩ := e2.mp hf1
        have := hw q1
        rw [if_neg c]
        (repeat (first | with_reducible refine jS_pos (by omega) ?_ | with_reducible refine jS_neg (by omega) ?_ | with_reducible refine jS_posB (by omega) ?_ | with_reducible refine jS_negB (by omega) ?_ | with_reducible refine jS_some ?_ | with_reducible refine jS_ls ?_ | with_reducible refine jS_let ?_ | with_reducible refine jS_lt (by omega) (by omega) ?_ | with_reducible refine jS_st (by omega) (by omega) ?_ | with_reducible refine jS_ix (by omega) (by omega) ?_ | with_reducible refine jS_dv (by omega) ?_ | with_reducible refine jS_zb (by omega) ?_ | with_reducible refine jS_bb ?_ | with_reducible refine jS_inr ?_ | with_reducible refine jS_lsB ?_ | with_reducible refine jS_letB ?_ | with_reducible refine jS_ck0 (by omega) ?_ | with_reducible refine jS_ck0B (by omega) ?_ | rw [W32_in (by omega) (by omega)] | rw [W32_aL] | rw [W32_aR] | rw [W32_sL] | rw [W32_mR] | rw [jf_neg (by omega)] | rw [jf_pos (by omega)] | with_reducible refine jS_bb ?_))
        rw [h2 k k0 k1, g2 k k0 (by omega)]
        simp only [em_X40_isSameName, dm_X40_isSameName, eu_X40_isSameName_71, du_X40_isSameName_71, eu_X40_isSameName_20, du_X40_isSameName_20]
        by_cases c1 : w (6 + k) = w' (6 + k)
        · (repeat (first | with_reducible refine jS_pos (by omega) ?_ | with_reducible refine jS_neg (by omega) ?_ | with_reducible refine jS_posB (by omega) ?_ | with_reducible refine jS_negB (by omega) ?_ | with_reducible refine jS_some ?_ | with_reducible refine jS_ls ?_ | with_reducible refine jS_let ?_ | with_reducible refine jS_lt (by omega) (by omega) ?_ | with_reducible refine jS_st (by omega) (by omega) ?_ | with_reducible refine jS_ix (by omega) (by omega) ?_ | with_reducible refine jS_dv (by omega) ?_ | with_reducible refine jS_zb (by omega) ?_ | with_reducible refine jS_bb ?_ | with_reducible refine jS_inr ?_ | with_reducible refine jS_lsB ?_ | with_reducible refine jS_letB ?_ | with_reducible refine jS_ck0 (by omega) ?_ | with_reducible refine jS_ck0B (by omega) ?_ | rw [W32_in (by omega) (by omega)] | rw [W32_aL] | rw [W32_aR] | rw [W32_sL] | rw [W32_mR] | rw [jf_neg (by omega)] | rw [jf_pos (by omega)] | with_reducible refine jS_bb ?_))
          refine jS_end ⟨1, rfl, .inr rfl, fun _ => ⟨q1, fun i i0 i1 => ?_⟩, fun _ => rfl⟩
          by_cases e : i = k
          · subst e; exact c1
          · exact q2 i i0 (by omega)
        · rw [if_neg c1]
          (repeat (first | with_reducible refine jS_pos (by omega) ?_ | with_reducible refine jS_neg (by omega) ?_ | with_reducible refine jS_posB (by omega) ?_ | with_reducible refine jS_negB (by omega) ?_ | with_reducible refine jS_some ?_ | with_reducible refine jS_ls ?_ | with_reducible refine jS_let ?_ | with_reducible refine jS_lt (by omega) (by omega) ?_ | with_reducible refine jS_st (by omega) (by omega) ?_ | with_reducible refine jS_ix (by omega) (by omega) ?_ | with_reducible refine jS_dv (by omega) ?_ | with_reducible refine jS_zb (by omega) ?_ | with_reducible refine jS_bb ?_ | with_reducible refine jS_inr ?_ | with_reducible refine jS_lsB ?_ | with_reducible refine jS_letB ?_ | with_reducible refine jS_ck0 (by omega) ?_ | with_reducible refine jS_ck0B (by omega) ?_ | rw [W32_in (by omega) (by omega)] | rw [W32_aL] | rw [W32_aR] | rw [W32_sL] | rw [W32_mR] | rw [jf_neg (by omega)] | rw [jf_pos (by omega)] | with_reducible refine jS_bb ?_))
          exact jS_end ⟨0, rfl, .inl rfl, fun q => absurd q (by decide), fun q => absurd (q.2 k k0 (by omega)) c1⟩
    · show jE (b_X40_isSameName_24 s X x y f (w 5)) _
      unfold b_X40_isSameName_24
      (repeat (first | with_reducible refine jS_pos (by omega) ?_ | with_reducible refine jS_neg (by omega) ?_ | with_reducible refine jS_posB (by omega) ?_ | with_reducible refine jS_negB (by omega) ?_ | with_reducible refine jS_some ?_ | with_reducible refine jS_ls ?_ | with_reducible refine jS_let ?_ | with_reducible refine jS_lt (by omega) (by omega) ?_ | with_reducible refine jS_st (by omega) (by omega) ?_ | with_reducible refine jS_ix (by omega) (by omega) ?_ | with_reducible refine jS_dv (by omega) ?_ | with_reducible refine jS_zb (by omega) ?_ | with_reducible refine jS_bb ?_ | with_reducible refine jS_inr ?_ | with_reducible refine jS_lsB ?_ | with_reducible refine jS_letB ?_ | with_reducible refine jS_ck0 (by omega) ?_ | with_reducible refine jS_ck0B (by omega) ?_ | rw [W32_in (by omega) (by omega)] | rw [W32_aL] | rw [W32_aR] | rw [W32_sL] | rw [W32_mR] | rw [jf_neg (by omega)] | rw [jf_pos (by omega)] | with_reducible refine jS_bb ?_))
      rw [Wz_in e1]
      exact jS_end ⟨e1, e2⟩
  rw [em_X40_isSameName]; unfold dm_X40_isSameName
  have fin : jE (u_X40_isSameName_20 s X x y (if w 5 = w' 5 then 1 else 0)) fun r => (r = 0 ∨ r = 1) ∧ (r = 1 ↔ sameNm w w') := by
    rw [eu_X40_isSameName_20]; unfold du_X40_isSameName_20
    refine jE_mono (key _ (by omega) (by omega)) fun r ⟨r1, r2⟩ => ⟨r1, ?_⟩
    rw [r2]
    unfold sameNm
    constructor
    · intro ⟨q1, q2⟩; exact ⟨by omega, q2⟩
    · intro ⟨q1, q2⟩; exact ⟨by rw [if_pos q1], q2⟩
  show jE _ _
  (repeat (first | with_reducible refine jS_pos (by omega) ?_ | with_reducible refine jS_neg (by omega) ?_ | with_reducible refine jS_posB (by omega) ?_ | with_reducible refine jS_negB (by omega) ?_ | with_reducible refine jS_some ?_ | with_reducible refine jS_ls ?_ | with_reducible refine jS_let ?_ | with_reducible refine jS_lt (by omega) (by omega) ?_ | with_reducible refine jS_st (by omega) (by omega) ?_ | with_reducible refine jS_ix (by omega) (by omega) ?_ | with_reducible refine jS_dv (by omega) ?_ | with_reducible refine jS_zb (by omega) ?_ | with_reducible refine jS_bb ?_ | with_reducible refine jS_inr ?_ | with_reducible refine jS_lsB ?_ | with_reducible refine jS_letB ?_ | with_reducible refine jS_ck0 (by omega) ?_ | with_reducible refine jS_ck0B (by omega) ?_ | rw [W32_in (by omega) (by omega)] | rw [W32_aL] | rw [W32_aR] | rw [W32_sL] | rw [W32_mR] | rw [jf_neg (by omega)] | rw [jf_pos (by omega)] | with_reducible refine jS_bb ?_))
  rw [h1, g1]
  by_cases c : w 5 = w' 5
  · rw [if_pos c]; rw [if_pos c] at fin; exact fin
  · rw [if_neg c]; rw [if_neg c] at fin; exact fin
theorem t_pow1 {v : Int} (h : pPw v) : m_X40_isPower s v = some 1 := by unfold pPw at h; rw [e_X40_isPower, if_pos h]
theorem t_pow0 {v : Int} (h : ¬ pPw v) : m_X40_isPower s v = some 0 := by unfold pPw at h; rw [e_X40_isPower, if_neg h]
theorem t_isSymbol {a v q h : Int} : ∃ r, m_X40_isSymbol s X a v q h = some r ∧ (r = 0 ∨ r = 1) ∧ (r = 1 ↔ wOK (wSy d a v q h x)) := by
  have e : wOK (wSy d a v q h x) ↔ (if a = -1 then v = 0 ∧ q = 0 ∧ h ≠ 0 else if a = 4 then 0 ≤ q else if a = 5 then pPw v ∧ 1 ≤ q ∧ q ≤ 4096 ∧ h = 1 else 0 ≤ v ∧ 0 ≤ q) := Iff.rfl
  rw [e, em_X40_isSymbol]; unfold dm_X40_isSymbol
  rw [Wz_0, Wz_1]
  by_cases c1 : a = -1
  · rw [if_pos c1, if_pos c1]
    by_cases c2 : v = 0
    · rw [if_pos c2]
      by_cases c3 : q = 0
      · rw [if_pos c3]
        by_cases c4 : h = 0
        · rw [if_pos c4]; exact ⟨0, rfl, by omega, by omega⟩
        · rw [if_neg c4]; exact ⟨1, rfl, by omega, by omega⟩
      · rw [if_neg c3]; exact ⟨0, rfl, by omega, by omega⟩
    · rw [if_neg c2]; exact ⟨0, rfl, by omega, by omega⟩
  · rw [if_neg c1, if_neg c1]
    by_cases c2 : a = 4
    · rw [if_pos c2, if_pos c2]
      by_cases c3 : q < 0
      · rw [if_pos c3]; exact ⟨0, rfl, by omega, by omega⟩
      · rw [if_neg c3]; exact ⟨1, rfl, by omega, by omega⟩
    · rw [if_neg c2, if_neg c2]
      by_cases c3 : a = 5
      · rw [if_pos c3, if_pos c3]
        by_cases c4 : pPw v
        · rw [t_pow1 c4, Option.bind_some, if_neg (by omega)]
          by_cases c5 : q < 1
          · rw [if_pos c5]; exact ⟨0, rfl, by omega, fun e => by omega, fun e => by have := e.2.1; omega⟩
          rw [if_neg c5]
          by_cases c6 : 4096 < q
          · rw [if_pos c6]; exact ⟨0, rfl, by omega, fun e => by omega, fun e => by have := e.2.2.1; omega⟩
          rw [if_neg c6]
          by_cases c7 : h = 1
          · rw [if_pos c7]; exact ⟨1, rfl, by omega, fun _ => ⟨c4, by omega, by omega, c7⟩, fun _ => rfl⟩
          · rw [if_neg c7]; exact ⟨0, rfl, by omega, fun e => by omega, fun e => absurd e.2.2.2 c7⟩
        · rw [t_pow0 c4, Option.bind_some, if_pos rfl]; exact ⟨0, rfl, by omega, fun e => by omega, fun e => absurd e.1 c4⟩
      · rw [if_neg c3, if_neg c3]
        by_cases c4 : v < 0
        · rw [if_pos c4]; exact ⟨0, rfl, by omega, by omega⟩
        · rw [if_neg c4]
          by_cases c5 : q < 0
          · rw [if_pos c5]; exact ⟨0, rfl, by omega, by omega⟩
          · rw [if_neg c5]; exact ⟨1, rfl, by omega, by omega⟩
theorem t_msymbol (h : tMk s X o d) {a v z how ty : Int} (hv1 : jin v) (hz1 : jin z) : ∃ o', (syOK o d a v z how ty ∧ o' = oSym o (wSy d a v z how ty) ∨ ¬ syOK o d a v z how ty ∧ o' = o) ∧ jE (m_X40_symbol s X a v z how ty) fun q => jFm s q.1 X 34 ∧ tMk q.1 X o' dNew := by
  obtain ⟨hO, hv, ⟨h1, h2⟩, hd⟩ := h
  have v5 := hd.at
  have hN2 := hO.2.2.1.2.1
  obtain ⟨n1, n2, n3, n4, n5, n6⟩ := hv.2.2.1
  have e5 : dNew 5 = 0 := rfl
  have dn : ∀ u, jf u 44 X 20 = 0 → tDr u X dNew := fun u e => ⟨by rw [e, e5], fun i i0 i1 => by omega⟩
  have no : ∀ u (r : Int), jFm s u X 34 → tOb u X 0 o → jf u 44 X 20 = 0 → ¬ syOK o d a v z how ty → ∃ o', (syOK o d a v z how ty ∧ o' = oSym o (wSy d a v z how ty) ∨ ¬ syOK o d a v z how ty ∧ o' = o) ∧ jE (some (u, r)) fun q => jFm s q.1 X 34 ∧ tMk q.1 X o' dNew := fun u r g hu e q => ⟨o, .inr ⟨q, rfl⟩, jS_end ⟨g, hu, hv, dn u e, vdNew⟩⟩
  have g1 : jFm s (jp s 44 X 20 0) X 34 := by (repeat' (first | exact jFm.rfl | refine jFm.jp ?_ (by omega) (by omega)))
  have o1 : tOb (jp s 44 X 20 0) X 0 o := hO.keep (fun a k a0 a1 => by (repeat (first | rw [jf_neg (by omega)] | rw [jf_pos (by omega)] | rw [ou_neg (by omega)] | rw [ou_pos (by omega)]))) hv
  have d1 : jf (jp s 44 X 20 0) 44 X 20 = 0 := by (repeat (first | rw [jf_neg (by omega)] | rw [jf_pos (by omega)] | rw [ou_neg (by omega)] | rw [ou_pos (by omega)]))
  have f1 : ∀ a k, jf (jp s 44 X 20 0) 1000 a k = jf s 1000 a k := fun a k => by (repeat (first | rw [jf_neg (by omega)] | rw [jf_pos (by omega)] | rw [ou_neg (by omega)] | rw [ou_pos (by omega)]))
  rw [em_X40_symbol]; unfold dm_X40_symbol
  simp only [jls]
  rw [jlt_in (by omega) (by omega), Option.bind_some, f1, hN2, h1]
  generalize jp s 44 X 20 0 = s1 at g1 o1 d1 f1 ⊢
  by_cases c1 : o 2 1 0 = 100
  · rw [if_pos c1]; exact no _ _ g1 o1 d1 fun q => by have := q.1; omega
  rw [if_neg c1]
  by_cases c2 : d 5 = 0
  · rw [if_pos c2]; exact no _ _ g1 o1 d1 fun q => by have := q.2.1; omega
  rw [if_neg c2]
  by_cases c3 : a < -1
  · rw [if_pos c3]; exact no _ _ g1 o1 d1 fun q => by have := q.2.2.1; omega
  rw [if_neg c3]
  by_cases c4 : 5 < a
  · rw [if_pos c4]; exact no _ _ g1 o1 d1 fun q => by have := q.2.2.2.1; omega
  rw [if_neg c4]
  by_cases c5 : how < 0
  · rw [if_pos c5]; exact no _ _ g1 o1 d1 fun q => by have := q.2.2.2.2.1; omega
  rw [if_neg c5]
  by_cases c6 : 2 < how
  · rw [if_pos c6]; exact no _ _ g1 o1 d1 fun q => by have := q.2.2.2.2.2.1; omega
  rw [if_neg c6]
  by_cases c7 : ty < 0
  · rw [if_pos c7]; exact no _ _ g1 o1 d1 fun q => by have := q.2.2.2.2.2.2.1; omega
  rw [if_neg c7]
  by_cases c8 : 2 < ty
  · rw [if_pos c8]; exact no _ _ g1 o1 d1 fun q => by have := q.2.2.2.2.2.2.2.1; omega
  rw [if_neg c8, jst_in n3 (by omega), Option.bind_some]
  -- other rows
  have keep : ∀ u u' : jS, tOb u X 0 o → (∀ a k, ¬ (a = X + 11 ∧ k = o 2 1 0) → ¬ (a = X + 12 ∧ 16 * o 2 1 0 ≤ k ∧ k < 16 * o 2 1 0 + 16) → ¬ (X + 6 ≤ a ∧ a < X + 11 ∧ k = o 2 1 0) → jf u' 1000 a k = jf u 1000 a k) → tOb u' X 0 o := by
    intro u u' hu e
    obtain ⟨hA, hB, hN, hT, hY, hR⟩ := hu
    refine ⟨fun x x0 x1 => ?_, fun x k x0 x1 k0 k1 => ?_, ⟨?_, ?_, ?_⟩, fun k k0 k1 => ?_, fun k k0 k1 => ?_, fun k k0 k1 => ?_⟩
    · rw [e _ _ (by omega) (by omega) (by omega), e _ _ (by omega) (by omega) (by omega)]; exact hA x x0 x1
    · rw [e _ _ (by omega) (by omega) (by omega)]; exact hB x k x0 x1 k0 k1
    · rw [e _ _ (by omega) (by omega) (by omega)]; exact hN.1
    · rw [e _ _ (by omega) (by omega) (by omega)]; exact hN.2.1
    · rw [e _ _ (by omega) (by omega) (by omega)]; exact hN.2.2
    · rw [e _ _ (by omega) (by omega) (by omega)]; exact hT k k0 k1
    · exact (hY k k0 k1).keep (hv.2.2.2.2.1 k k0 k1).2.2.2.2.2.2.2.2.2.1 (fun _ _ _ => e _ _ (by omega) (by omega) (by omega)) (fun _ _ _ => e _ _ (by omega) (by omega) (by omega))
    · exact (hR k k0 k1).keep (fun _ _ _ => e _ _ (by omega) (by omega) (by omega))
  have o2 : tOb (jp s1 1000 (X + 11) (o 2 1 0) (d 5)) X 0 o := keep _ _ o1 fun a k q1 q2 q3 => by (repeat (first | rw [jf_neg (by omega)] | rw [jf_pos (by omega)] | rw [ou_neg (by omega)] | rw [ou_pos (by omega)]))
  have g2 : jFm s (jp s1 1000 (X + 11) (o 2 1 0) (d 5)) X 34 := g1.jp (by omega) (by omega)
  have d2 : jf (jp s1 1000 (X + 11) (o 2 1 0) (d 5)) 44 X 20 = 0 := by (repeat (first | rw [jf_neg (by omega)] | rw [jf_pos (by omega)] | rw [ou_neg (by omega)] | rw [ou_pos (by omega)])); exact d1
  have r2 : jf (jp s1 1000 (X + 11) (o 2 1 0) (d 5)) 1000 (X + 11) (o 2 1 0) = d 5 := by (repeat (first | rw [jf_neg (by omega)] | rw [jf_pos (by omega)] | rw [ou_neg (by omega)] | rw [ou_pos (by omega)]))
  have l2 : ∀ k, jf (jp s1 1000 (X + 11) (o 2 1 0) (d 5)) 1000 (X + 20) k = jf s 1000 (X + 20) k := fun k => by (repeat (first | rw [jf_neg (by omega)] | rw [jf_pos (by omega)] | rw [ou_neg (by omega)] | rw [ou_pos (by omega)])); exact f1 _ _
  generalize jp s1 1000 (X + 11) (o 2 1 0) (d 5) = s2 at o2 g2 d2 r2 l2 ⊢
  -- the name
  have c9 : ∃ s3, u_X40_symbol_77 s2 X a v z how ty (d 5) (o 2 1 0) 0 = u_X40_symbol_110 s3 X a v z how ty (o 2 1 0) ∧ jFm s s3 X 34 ∧ tOb s3 X 0 o ∧ jf s3 44 X 20 = 0 ∧ tNm s3 X (o 2 1 0) d := by
    refine ⟨jfil s2 1000 (X + 12) (16 * o 2 1 0) (d 5) (fun i => d (6 + i)), ?_, ?_, ?_, ?_, ?_, fun i i0 i1 => ?_⟩
    · rw [eu_X40_symbol_77]; unfold du_X40_symbol_77
      refine jloop_fill (fun k => [X, a, v, z, how, ty, d 5, o 2 1 0, k]) s2 1000 (X + 12) (16 * o 2 1 0) (d 5) (fun i => d (6 + i)) v5.1 (fun k k0 k1 => ?_) ?_
      · show b_X40_symbol_77 _ X a v z how ty (d 5) (o 2 1 0) k = _
        unfold b_X40_symbol_77
        rw [if_pos k1, jlt_in k0 (by omega), Option.bind_some, jf_jfil, if_neg (by omega), l2, h2 k k0 k1, W32_in (z := 16 * o 2 1 0) (by omega) (by omega), W32_in (by omega) (by omega), jst_in (by omega) (by omega), Option.bind_some, W32_in (by omega) (by omega)]
      · show b_X40_symbol_77 _ X a v z how ty (d 5) (o 2 1 0) (d 5) = _
        unfold b_X40_symbol_77
        rw [if_neg (by omega)]
    · exact g2.jw fun c a k q => by rw [if_neg (by omega)]
    · exact keep _ _ o2 fun a k q1 q2 q3 => by rw [jf_jfil, if_neg (by omega)]
    · rw [jf_jfil, if_neg (by omega)]; exact d2
    · rw [jf_jfil, if_neg (by omega)]; exact r2
    · rw [jf_jfil, if_pos ⟨rfl, rfl, by omega, by omega⟩, show 16 * o 2 1 0 + i - 16 * o 2 1 0 = i by omega]
  obtain ⟨s3, e3, g3, o3, d3, nm3⟩ := c9
  rw [e3, eu_X40_symbol_110]; unfold du_X40_symbol_110
  rw [eu_X40_symbol_113]; unfold du_X40_symbol_113
  -- whether it is taken
  have st : ∀ k, 0 ≤ k → k < o 2 1 0 → (¬ (how ≠ 0 ∧ o 4 k 3 ≠ 0 ∧ sameNm (o 4 k) d) → b_X40_symbol_113 s3 X a v z how ty (o 2 1 0) k = some (.inl (s3, [X, a, v, z, how, ty, o 2 1 0, k + 1]))) ∧ ((how ≠ 0 ∧ o 4 k 3 ≠ 0 ∧ sameNm (o 4 k) d) → b_X40_symbol_113 s3 X a v z how ty (o 2 1 0) k = jinr (some (s3, -1))) := fun k k0 k1 => by
    obtain ⟨y1, y2, y3, y4, y5, y6⟩ := o3.2.2.2.2.1 k k0 k1
    rw [show 100 * (0 : Int) + k = k by omega] at y4 y6
    obtain ⟨r, e, r0, r1⟩ := t_same (x := o 2 1 0) (y := k) nm3 y6 hd (hv.2.2.2.2.1 k k0 k1).2.2.2.2.2.2.2.2.2.1 n3 (by omega) k0 (by omega)
    have r1' : r = 1 ↔ sameNm (o 4 k) d := by
      rw [r1]
      unfold sameNm
      constructor <;> intro ⟨q1, q2⟩ <;> exact ⟨q1.symm, fun i i0 i1 => (q2 i i0 (by omega)).symm⟩
    unfold b_X40_symbol_113
    simp only [em_X40_symbol, dm_X40_symbol, eu_X40_symbol_154, du_X40_symbol_154, eu_X40_symbol_148, du_X40_symbol_148, eu_X40_symbol_110, du_X40_symbol_110]
    rw [if_pos k1, W32_in (by omega) (by omega)]
    by_cases c : how = 0
    · rw [if_pos c]
      exact ⟨fun _ => rfl, fun q => absurd c q.1⟩
    · rw [if_neg c, jlt_in k0 (by omega), Option.bind_some, y4]
      by_cases c' : o 4 k 3 = 0
      · rw [if_pos c']
        exact ⟨fun _ => rfl, fun q => absurd c' q.2.1⟩
      · rw [if_neg c', e, Option.bind_some]
        by_cases c1 : r = 0
        · rw [if_pos c1]
          exact ⟨fun _ => rfl, fun q => by have := r1'.mpr q.2.2; omega⟩
        · rw [if_neg c1]
          exact ⟨fun q => absurd ⟨c, c', r1'.mp (by omega)⟩ q, fun _ => rfl⟩
  rcases jseekW (C := jc8 b_X40_symbol_113) (s := s3) (fun k => [X, a, v, z, how, ty, o 2 1 0, k]) (fun k => how ≠ 0 ∧ o 4 k 3 ≠ 0 ∧ sameNm (o 4 k) d) (fun _ => some (s3, -1)) (u_X40_symbol_154 s3 X a v z how ty (o 2 1 0)) 0 (o 2 1 0) n3 (fun k k0 k1 hk => (st k k0 k1).1 hk) (fun k k0 k1 hk => (st k k0 k1).2 hk) (by
      show b_X40_symbol_113 s3 X a v z how ty (o 2 1 0) (o 2 1 0) = _
      unfold b_X40_symbol_113
      rw [if_neg (by omega)]) with ⟨k, k0, k1, k2, -, e⟩ | ⟨k2, e⟩
  · rw [e]
    exact no _ _ g3 o3 d3 fun q => by
      rcases q.2.2.2.2.2.2.2.2.1 with q | q
      · exact k2.1 q
      · exact q ⟨k, k0, k1, k2.2⟩
  rw [e, eu_X40_symbol_154]; unfold du_X40_symbol_154
  obtain ⟨r, er, r0, r1⟩ := t_isSymbol (s := s3) (X := X) (d := d) (a := a) (v := v) (q := z) (h := how) (x := ty)
  rw [er, Option.bind_some]
  by_cases c9 : r = 0
  · rw [if_pos c9]
    exact no _ _ g3 o3 d3 fun q => by have := r1.mpr q.2.2.2.2.2.2.2.2.2; omega
  have ok : syOK o d a v z how ty := ⟨by omega, by omega, by omega, by omega, by omega, by omega, by omega, by omega, by
    by_cases c : how = 0
    · exact .inl c
    · exact .inr fun ⟨k, k0, k1, q⟩ => k2 k k0 k1 ⟨c, q⟩, r1.mp (by omega)⟩
  refine ⟨_, .inl ⟨ok, rfl⟩, ?_⟩
  rw [if_neg c9]
  have hN3 := o3.2.2.1.2.1
  (repeat (first | with_reducible refine jS_pos (by omega) ?_ | with_reducible refine jS_neg (by omega) ?_ | with_reducible refine jS_posB (by omega) ?_ | with_reducible refine jS_negB (by omega) ?_ | with_reducible refine jS_some ?_ | with_reducible refine jS_ls ?_ | with_reducible refine jS_let ?_ | with_reducible refine jS_lt (by omega) (by omega) ?_ | with_reducible refine jS_st (by omega) (by omega) ?_ | with_reducible refine jS_ix (by omega) (by omega) ?_ | with_reducible refine jS_dv (by omega) ?_ | with_reducible refine jS_zb (by omega) ?_ | with_reducible refine jS_bb ?_ | with_reducible refine jS_inr ?_ | with_reducible refine jS_lsB ?_ | with_reducible refine jS_letB ?_ | with_reducible refine jS_ck0 (by omega) ?_ | with_reducible refine jS_ck0B (by omega) ?_ | rw [W32_in (by omega) (by omega)] | rw [W32_aL] | rw [W32_aR] | rw [W32_sL] | rw [W32_mR] | rw [jf_neg (by omega)] | rw [jf_pos (by omega)] | with_reducible refine jS_bb ?_))
  rw [show jf s3 1000 (X + 13) 0 = o 2 1 0 from hN3]
  (repeat (first | with_reducible refine jS_pos (by omega) ?_ | with_reducible refine jS_neg (by omega) ?_ | with_reducible refine jS_posB (by omega) ?_ | with_reducible refine jS_negB (by omega) ?_ | with_reducible refine jS_some ?_ | with_reducible refine jS_ls ?_ | with_reducible refine jS_let ?_ | with_reducible refine jS_lt (by omega) (by omega) ?_ | with_reducible refine jS_st (by omega) (by omega) ?_ | with_reducible refine jS_ix (by omega) (by omega) ?_ | with_reducible refine jS_dv (by omega) ?_ | with_reducible refine jS_zb (by omega) ?_ | with_reducible refine jS_bb ?_ | with_reducible refine jS_inr ?_ | with_reducible refine jS_lsB ?_ | with_reducible refine jS_letB ?_ | with_reducible refine jS_ck0 (by omega) ?_ | with_reducible refine jS_ck0B (by omega) ?_ | rw [W32_in (by omega) (by omega)] | rw [W32_aL] | rw [W32_aR] | rw [W32_sL] | rw [W32_mR] | rw [jf_neg (by omega)] | rw [jf_pos (by omega)] | with_reducible refine jS_bb ?_))
  generalize hs4 : jp (jp (jp (jp (jp (jp s3 1000 (X + 6) (o 2 1 0) a) 1000 (X + 7) (o 2 1 0) v) 1000 (X + 8) (o 2 1 0) z) 1000 (X + 9) (o 2 1 0) how) 1000 (X + 10) (o 2 1 0) ty) 1000 (X + 13) 0 (o 2 1 0 + 1) = s4
  have G : jFm s s4 X 34 := by rw [← hs4]; exact (((((g3.jp (by omega) (by omega)).jp (by omega) (by omega)).jp (by omega) (by omega)).jp (by omega) (by omega)).jp (by omega) (by omega)).jp (by omega) (by omega)
  have f : ∀ a k, ¬ (X + 6 ≤ a ∧ a < X + 11 ∧ k = o 2 1 0) → ¬ (a = X + 13 ∧ k = 0) → jf s4 1000 a k = jf s3 1000 a k := fun a k q1 q2 => by rw [← hs4]; (repeat (first | rw [jf_neg (by omega)] | rw [jf_pos (by omega)] | rw [ou_neg (by omega)] | rw [ou_pos (by omega)]))
  have hvs : vSy (wSy d a v z how ty) := ⟨by show -1 ≤ a; omega, by show a ≤ 5; omega, hv1, hz1, by show 0 ≤ how; omega, by show how ≤ 2; omega, by show 0 ≤ ty; omega, by show ty ≤ 2; omega, by rw [wSy_d (by omega)]; omega, hd.row fun k hk => wSy_d hk, ok.2.2.2.2.2.2.2.2.2⟩
  obtain ⟨hA, hB, hN, hT, hY, hR⟩ := o3
  refine jS_end ⟨G, ⟨fun x x0 x1 => ?_, fun x k x0 x1 k0 k1 => ?_, ⟨?_, ?_, ?_⟩, fun k k0 k1 => ?_, fun k k0 k1 => ?_, fun k k0 k1 => ?_⟩, vSym hv (by omega) hvs, dn _ (by rw [← hs4]; (repeat (first | rw [jf_neg (by omega)] | rw [jf_pos (by omega)] | rw [ou_neg (by omega)] | rw [ou_pos (by omega)])); exact d3), vdNew⟩
  · rw [f _ _ (by omega) (by omega), f _ _ (by omega) (by omega), oSym_o (by omega) (by omega)]; exact hA x x0 x1
  · rw [oSym_o (by omega) (by omega)] at k1
    rw [f _ _ (by omega) (by omega), oSym_o (by omega) (by omega)]; exact hB x k x0 x1 k0 k1
  · rw [f _ _ (by omega) (by omega), oSym_o (by omega) (by omega)]; exact hN.1
  · rw [oSym_n, ← hs4]; (repeat (first | rw [jf_neg (by omega)] | rw [jf_pos (by omega)] | rw [ou_neg (by omega)] | rw [ou_pos (by omega)]))
  · rw [f _ _ (by omega) (by omega), oSym_o (by omega) (by omega)]; exact hN.2.2
  · rw [oSym_o (by omega) (by omega)] at k1
    rw [f _ _ (by omega) (by omega), oSym_o (by omega) (by omega)]; exact hT k k0 k1
  · rw [oSym_n] at k1
    by_cases ek : k = o 2 1 0
    · subst ek
      rw [oSym_4, show 100 * (0 : Int) + o 2 1 0 = o 2 1 0 by omega]
      refine ⟨?_, ?_, ?_, ?_, ?_, ?_⟩
      · rw [← hs4]; (repeat (first | rw [jf_neg (by omega)] | rw [jf_pos (by omega)] | rw [ou_neg (by omega)] | rw [ou_pos (by omega)])); rfl
      · rw [← hs4]; (repeat (first | rw [jf_neg (by omega)] | rw [jf_pos (by omega)] | rw [ou_neg (by omega)] | rw [ou_pos (by omega)])); rfl
      · rw [← hs4]; (repeat (first | rw [jf_neg (by omega)] | rw [jf_pos (by omega)] | rw [ou_neg (by omega)] | rw [ou_pos (by omega)])); rfl
      · rw [← hs4]; (repeat (first | rw [jf_neg (by omega)] | rw [jf_pos (by omega)] | rw [ou_neg (by omega)] | rw [ou_pos (by omega)])); rfl
      · rw [← hs4]; (repeat (first | rw [jf_neg (by omega)] | rw [jf_pos (by omega)] | rw [ou_neg (by omega)] | rw [ou_pos (by omega)])); rfl
      · have : tNm s4 X (o 2 1 0) d := nm3.keep hd (fun k _ _ => f _ _ (by omega) (by omega)) (f _ _ (by omega) (by omega))
        exact ⟨by rw [wSy_d (by omega)]; exact this.1, fun i i0 i1 => by rw [wSy_d (by omega)]; rw [wSy_d (by omega)] at i1; exact this.2 i i0 i1⟩
    · rw [oSym_o (by omega) (by omega)]
      exact (hY k k0 (by omega)).keep (hv.2.2.2.2.1 k k0 (by omega)).2.2.2.2.2.2.2.2.2.1 (fun _ _ _ => f _ _ (by omega) (by omega)) (fun _ _ _ => f _ _ (by omega) (by omega))
  · rw [oSym_o (by omega) (by omega)] at k1
    rw [oSym_o (by omega) (by omega)]
    exact (hR k k0 k1).keep (fun _ _ _ => f _ _ (by omega) (by omega))
end jTmade
