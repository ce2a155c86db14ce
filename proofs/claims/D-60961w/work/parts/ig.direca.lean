/-! directives: numbers *-/
section jDireca
variable {s t u w t' s1 t1 : jS} {v A H b lo W k c a hh x y f d n o j e i : Int} {NL : List (List Int)} {I : pI} {OL : List pvO} {SL : List pvS} {z : pvS} {zo : pvO} {Q Q' : jS → jS → Int → Prop} {q : jS × Bool × Int} {r : jS}
theorem y_datL (h : AG s t A H b lo NL I OL SL k z) : ∀ (m : Nat) (j : Int), 0 ≤ j → j + m = z.2.2.2.1 → u_X37_data_30 t H x 0 j = u_X37_data_63 t H x 0 ∧ (alS 0 OL z j → u_X37_data_30 t H x 1 j = u_X37_data_63 t H x 1) ∧ (¬ alS 0 OL z j → u_X37_data_30 t H x 1 j = u_X37_data_63 t H x 0)
  | 0, j, j0, hj => by
    have key : ∀ d, u_X37_data_30 t H x d j = u_X37_data_63 t H x d := fun d => by
      rw [eu_X37_data_30]; unfold du_X37_data_30
      refine jlpW_r ?_
      show b_X37_data_30 t H x d j = _
      unfold b_X37_data_30
      rw [h.2.1.2.2.2, if_neg (by omega)]
    exact ⟨key 0, fun _ => key 1, fun q => absurd (alS.end (by omega)) q⟩
  | m + 1, j, j0, hj => by
    obtain ⟨o1, o2, o3, og, o5⟩ := h.1.op j0 (by omega : j < z.2.2.2.1)
    have st00 := h.1.st0
    obtain ⟨i0, i1, i2⟩ := y_datL h m (j + 1) (by omega) (by omega)
    have st := alS.st (v := 0) (OL := OL) (z := z) (by omega : j < z.2.2.2.1)
    have e55 : u_X37_data_55 t H x j = some (.inl (t, [H, x, 0, j + 1])) := by
      rw [eu_X37_data_55]; unfold du_X37_data_55
      rw [eu_X37_data_56]; unfold du_X37_data_56
      rw [W32_in (by omega) (by omega)]
    have b0 : jc4 b_X37_data_30 [H, x, 0, j] t = some (.inl (t, [H, x, 0, j + 1])) := by
      show b_X37_data_30 t H x 0 j = _
      unfold b_X37_data_30
      rw [h.2.1.2.2.2, if_pos (by omega), if_pos rfl, e55]
    have b1 : jc4 b_X37_data_30 [H, x, 1, j] t = some (.inl (t, [H, x, if opSr 0 (tO OL (z.2.2.1 + j)) then 1 else 0, j + 1])) := by
      show b_X37_data_30 t H x 1 j = _
      unfold b_X37_data_30
      rw [h.2.1.2.2.2, if_pos (by omega), if_neg n10, y_isS h j0, Option.bind_some]
      dsimp only
      by_cases c : opSr 0 (tO OL (z.2.2.1 + j))
      · rw [if1 ⟨by omega, c⟩, if_neg n10, if1 c, eu_X37_data_56]; unfold du_X37_data_56
        rw [W32_in (by omega) (by omega)]
      · rw [if0 (fun e : j < z.2.2.2.1 ∧ opSr 0 (tO OL (z.2.2.1 + j)) => c e.2), if_pos rfl, if0 c, e55]
    rw [eu_X37_data_30] at i0 i1 i2 ⊢; unfold du_X37_data_30 at i0 i1 i2 ⊢
    rw [jlpW_l b0, jlpW_l b1]
    refine ⟨i0, fun q => ?_, fun q => ?_⟩
    · rw [if1 (st.mp q).1]; exact i1 (st.mp q).2
    · by_cases c : opSr 0 (tO OL (z.2.2.1 + j))
      · rw [if1 c]; exact i2 fun e => q (st.mpr ⟨c, e⟩)
      · rw [if0 c]; exact i0
theorem numbers2 (h : AG s t A H b lo NL I OL SL k z) (hx : x = 1 ∨ x = 2 ∨ x = 4) : stO s t A H b lo NL I OL SL k z (m_X33_numbers s A x) (m_X37_data t H x) (dQ t H) := by
  have n0 := h.1.stg.2.2.2.2.1
  obtain ⟨m, hm, -⟩ := nat_of n0
  have a30 := h.1.2.2.2.1.2.2.2.1.1
  obtain ⟨k1, k2⟩ := c_all2 (v := 0) h (.inl rfl)
  obtain ⟨l0, l1, l2⟩ := y_datL (x := x) h m 0 (by omega) (by omega)
  rw [em_X33_numbers, em_X37_data]; unfold dm_X33_numbers dm_X37_data
  rw [a30.1, h.2.1.2.2.2]
  by_cases c3 : jf t 41 H 34 = 3
  · rw [if_pos c3, if_pos c3, eu_X33_numbers_14]; unfold du_X33_numbers_14
    exact .bad0 h (by decide) fun _ _ => rfl
  rw [if_neg c3, if_neg c3, eu_X33_numbers_14, eu_X37_data_27]; unfold du_X33_numbers_14 du_X37_data_27
  rw [needOk (by decide)]
  dsimp only
  rw [jth_ff]
  by_cases ca : 0 < z.2.2.2.1 ∧ alS 0 OL z 0
  · rw [k1 ca, Option.bind_some, if_pos ca.1, l1 ca.2, needOk (by decide), eu_X37_data_63]; unfold du_X37_data_63
    dsimp only
    rw [jth_ff, if_neg n10]
    rcases nums1 hx m 0 s t h (by omega) (by omega) ca.2 (fun i i0 i1 => by omega) with ⟨q, r, e1, e2, e3⟩ | ⟨u, w, e1, e2, e3, e4, e5, e6, e7, e8⟩
    · exact .inl ⟨q, r, e1, e2, e3⟩
    · rw [e1, e2, eu_X33_numbers_172, eu_X37_data_254]; unfold du_X33_numbers_172 du_X37_data_254
      rcases nums2 hx m 0 u w e3 (by rw [e8]; omega) (by omega) (by omega) (fun i i0 i1 => e6 i i0 i1) with ⟨q, r, d1, d2, d3⟩ | ⟨u', w', v', d1, d2, d3, d4, d5, d6⟩
      · exact .inl ⟨q, r, d1, d2, d3.after e4 e5⟩
      · refine .inr ⟨u', w', v', d1, d2, d3, (e4.trans d4 : cFa A s u' (0 + 0) (0 + 0)), e5.trans d5, ?_⟩
        show jf w' 41 H 26 = jf t 41 H 26
        have d6' : jf w' 41 H 26 = jf w 41 H 26 := d6
        rw [d6', e7]
  · have e63 : (if 0 < z.2.2.2.1 then u_X37_data_30 t H x 1 0 else u_X37_data_30 t H x 0 0) = (m_X37_fail t H 12).bind fun q1 => some (q1.1, Wz q1.2) := by
      have : u_X37_data_63 t H x 0 = (m_X37_fail t H 12).bind fun q1 => some (q1.1, Wz q1.2) := by
        rw [eu_X37_data_63]; unfold du_X37_data_63
        rw [if_pos rfl]
      by_cases c : 0 < z.2.2.2.1
      · rw [if_pos c, l2 fun e => ca ⟨c, e⟩, this]
      · rw [if_neg c, l0, this]
    rw [k2 ca, Option.bind_some, e63]
    exact .bad0 h (by decide) fun _ _ => rfl
end jDireca
