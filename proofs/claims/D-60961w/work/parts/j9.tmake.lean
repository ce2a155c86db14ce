/-! the object comes to be written, the twin's bytes; starts on both sides *-/
set_option maxRecDepth 100000
section jTmk9
variable {s t u w s0 t0 : jS} {v A H b lo k c a x y n j m i O X z : Int} {o o' : Int → Int → Int → Int} {d : Int → Int} {sz al : Int → Int} {by' : Int → Int → Int} {NL : List (List Int)} {I : pI} {OL : List pvO} {SL : List pvS}
/-- the twin's numbers, as values *-/
def yVal (t : jS) (H : Int) (sz al : Int → Int) (by' : Int → Int → Int) : Prop := (∀ x, 0 ≤ x → x < 4 → jf t 1000 (H + 153) x = sz x ∧ (0 ≤ sz x ∧ sz x ≤ szM x) ∧ jf t 1000 (H + 154) x = al x) ∧ ∀ x i, 0 ≤ x → x < 3 → 0 ≤ i → i < sz x → jf t 1000 (H + 152) (2048 * x + i) = by' x i
theorem yVal.fm (h : yVal t H sz al by') (g : jFm t w (H + 25) 34) : yVal w H sz al by' := by
  obtain ⟨h1, h2⟩ := h
  refine ⟨fun x x0 x1 => ?_, fun x i x0 x1 i0 i1 => ?_⟩
  · rw [g.2 _ _ _ (by omega), g.2 _ _ _ (by omega)]; exact h1 x x0 x1
  · rw [g.2 _ _ _ (by omega)]; exact h2 x i x0 x1 i0 i1
/-- the twin's made object so far: sections before x, k bytes of x *-/
def yMd (t : jS) (X : Int) (sz al : Int → Int) (by' : Int → Int → Int) (x k : Int) : Prop := (∀ y, 0 ≤ y → y < x → jf t 1000 (X + 2) y = sz y ∧ jf t 1000 (X + 3) y = al y) ∧ (∀ y i, 0 ≤ y → y < x → y < 3 → 0 ≤ i → i < sz y → jf t 1000 (X + 1) (2048 * y + i) = by' y i) ∧ (∀ i, 0 ≤ i → i < k → jf t 1000 (X + 1) (2048 * x + i) = by' x i)
/-- all but sections' rows is kept *-/
def yMf (t w : jS) (X : Int) : Prop := jFm t w X 34 ∧ ∀ c a j, ¬ (c = 1000 ∧ X + 1 ≤ a ∧ a ≤ X + 3) → jf w c a j = jf t c a j
theorem yMf.rfl : yMf t t X := ⟨jFm.rfl, fun _ _ _ _ => Eq.refl _⟩
theorem yMf.trans (h : yMf t u X) (g : yMf u w X) : yMf t w X := ⟨h.1.trans g.1, fun c a j z => (g.2 c a j z).trans (h.2 c a j z)⟩
theorem yMf.jp (h : yMf t u X) (h0 : X + 1 ≤ a) (h1 : a ≤ X + 3) : yMf t (jp u 1000 a k v) X := ⟨h.1.jp (by omega) (by omega), fun c a' j z => by rw [jf_neg (by omega)]; exact h.2 c a' j z⟩
theorem ym_bytes (hX : X = H + 25) : ∀ (m : Nat) (t : jS) (x k : Int), yVal t H sz al by' → 0 ≤ x → x < 3 → 0 ≤ k → k + m = sz x → yMd t X sz al by' x k → ∃ w, u_X37_makeObject_46 t H x k = u_X37_makeObject_94 w H x ∧ yMf t w X ∧ yMd w X sz al by' x (sz x) ∧ jf w 1000 (X + 2) x = jf t 1000 (X + 2) x ∧ jf w 1000 (X + 3) x = jf t 1000 (X + 3) x
  | 0, t, x, k, hV, x0, x1, k0, hk, hM => by
    have ek : k = sz x := by omega
    have v1 := (hV.1 x x0 (by omega)).1
    refine ⟨t, ?_, .rfl, by rw [← ek]; exact hM, rfl, rfl⟩
    rw [eu_X37_makeObject_46]; unfold du_X37_makeObject_46
    refine jlpW_r (r := u_X37_makeObject_94 t H x) ?_
    show b_X37_makeObject_46 t H x k = _
    unfold b_X37_makeObject_46
    rw [jlt_in x0 (by omega), Option.bind_some, v1, if_neg (by omega)]
  | m + 1, t, x, k, hV, x0, x1, k0, hk, hM => by
    obtain ⟨v1, v2, -⟩ := hV.1 x x0 (by omega)
    have z2 : sz x ≤ 2048 := by have := v2.2; rw [szM_2 x x1 x0] at this; exact this
    have bv := hV.2 x k x0 x1 k0 (by omega)
    obtain ⟨w1, G1⟩ : ∃ w1, w1 = jp t 1000 (X + 1) (2048 * x + k) (by' x k) := ⟨_, rfl⟩
    obtain ⟨g1, r1, -⟩ := jpF G1
    have st : jc3 b_X37_makeObject_46 [H, x, k] t = some (.inl (w1, [H, x, k + 1])) := by
      show b_X37_makeObject_46 t H x k = _
      unfold b_X37_makeObject_46
      rw [jlt_in x0 (by omega), Option.bind_some, v1, if_pos (by omega), if_pos x1, W32_in (z := 2048 * x) (by omega) (by omega), W32_in (z := 2048 * x + k) (by omega) (by omega), jlt_in (by omega) (by omega), Option.bind_some, bv, jst_in (by omega) (by omega), Option.bind_some, ← hX, ← G1, W32_in (by omega) (by omega)]
    have mf : yMf t w1 X := by rw [G1]; exact yMf.rfl.jp (by omega) (by omega)
    have hM' : yMd w1 X sz al by' x (k + 1) := by
      refine ⟨fun y y0 y1 => ?_, fun y i y0 y1 y2 i0 i1 => ?_, fun i i0 i1 => ?_⟩
      · rw [g1 _ _ _ (by omega), g1 _ _ _ (by omega)]; exact hM.1 y y0 y1
      · have := (hV.1 y y0 (by omega)).2.1.2
        rw [szM_2 y y2 y0] at this
        rw [g1 _ _ _ (by omega)]; exact hM.2.1 y i y0 y1 y2 i0 i1
      · by_cases c : i = k
        · rw [c, r1]
        · rw [g1 _ _ _ (by omega)]; exact hM.2.2 i i0 (by omega)
    have fm : jFm t w1 (H + 25) 34 := by rw [← hX]; exact mf.1
    obtain ⟨w, i1, i2, i3, i4, i5⟩ := ym_bytes hX m w1 x (k + 1) (hV.fm fm) x0 x1 (by omega) (by omega) hM'
    refine ⟨w, ?_, mf.trans i2, i3, by rw [i4, g1 _ _ _ (by omega)], by rw [i5, g1 _ _ _ (by omega)]⟩
    rw [eu_X37_makeObject_46] at i1 ⊢; unfold du_X37_makeObject_46 at i1 ⊢
    rw [jlpW_l st]; exact i1
theorem ym_secs (hX : X = H + 25) : ∀ (m : Nat) (t : jS) (x : Int), yVal t H sz al by' → 0 ≤ x → x + m = 4 → yMd t X sz al by' x 0 → ∃ w, u_X37_makeObject_9 t H x = u_X37_makeObject_100 w H ∧ yMf t w X ∧ yMd w X sz al by' 4 0
  | 0, t, x, hV, x0, hk, hM => by
    have e4 : x = 4 := by omega
    subst e4
    refine ⟨t, ?_, .rfl, hM⟩
    rw [eu_X37_makeObject_9]; unfold du_X37_makeObject_9
    refine jlpW_r (r := u_X37_makeObject_100 t H) ?_
    show b_X37_makeObject_9 t H 4 = _
    unfold b_X37_makeObject_9
    rw [if_neg (by decide)]
  | m + 1, t, x, hV, x0, hk, hM => by
    obtain ⟨v1, v2, v3⟩ := hV.1 x x0 (by omega)
    obtain ⟨w1, G1⟩ : ∃ w1, w1 = jp t 1000 (X + 2) x (sz x) := ⟨_, rfl⟩
    obtain ⟨g1, r1, -⟩ := jpF G1
    obtain ⟨w2, G2⟩ : ∃ w2, w2 = jp w1 1000 (X + 3) x (al x) := ⟨_, rfl⟩
    obtain ⟨g2, r2, -⟩ := jpF G2
    have mf : yMf t w2 X := by rw [G2, G1]; exact (yMf.rfl.jp (by omega) (by omega)).jp (by omega) (by omega)
    have fm : jFm t w2 (H + 25) 34 := by rw [← hX]; exact mf.1
    have hV2 := hV.fm fm
    have hM2 : yMd w2 X sz al by' x 0 := by
      refine ⟨fun y y0 y1 => ?_, fun y i y0 y1 y2 i0 i1 => ?_, fun i i0 i1 => by omega⟩
      · rw [g2 _ _ _ (by omega), g1 _ _ _ (by omega), g2 _ _ _ (by omega), g1 _ _ _ (by omega)]; exact hM.1 y y0 y1
      · rw [g2 _ _ _ (by omega), g1 _ _ _ (by omega)]; exact hM.2.1 y i y0 y1 y2 i0 i1
    have inner : ∃ w, u_X37_makeObject_46 w2 H x 0 = u_X37_makeObject_94 w H x ∧ yMf w2 w X ∧ yMd w X sz al by' (x + 1) 0 := by
      by_cases c : x < 3
      · obtain ⟨w, q1, q2, i3, i4, i5⟩ := ym_bytes hX (sz x).toNat w2 x 0 hV2 x0 c (Int.le_refl _) (by omega) hM2
        refine ⟨w, q1, q2, fun y y0 y1 => ?_, fun y i y0 y1 y2 i0 i1 => ?_, fun i i0 i1 => by omega⟩
        · by_cases cy : y = x
          · subst cy; rw [i4, i5, r2, g2 _ _ _ (by omega), r1]; exact ⟨rfl, rfl⟩
          · exact i3.1 y y0 (by omega)
        · by_cases cy : y = x
          · subst cy; exact i3.2.2 i i0 i1
          · exact i3.2.1 y i y0 (by omega) y2 i0 i1
      · have e3 : x = 3 := by omega
        subst e3
        refine ⟨w2, ?_, .rfl, fun y y0 y1 => ?_, fun y i y0 y1 y2 i0 i1 => hM2.2.1 y i y0 y2 y2 i0 i1, fun i i0 i1 => by omega⟩
        · rw [eu_X37_makeObject_46]; unfold du_X37_makeObject_46
          refine jlpW_r (r := u_X37_makeObject_94 w2 H 3) ?_
          show b_X37_makeObject_46 w2 H 3 0 = _
          unfold b_X37_makeObject_46
          rw [jlt_in (by decide) (by decide), Option.bind_some]
          split <;> rfl
        · by_cases cy : y = 3
          · subst cy; rw [r2, g2 _ _ _ (by omega), r1]; exact ⟨rfl, rfl⟩
          · exact hM2.1 y y0 (by omega)
    obtain ⟨w3, i1, i2, i3⟩ := inner
    have st : jc2 b_X37_makeObject_9 [H, x] t = some (.inl (w3, [H, x + 1])) := by
      show b_X37_makeObject_9 t H x = _
      unfold b_X37_makeObject_9
      rw [if_pos (by omega), jlt_in x0 (by omega), Option.bind_some, v1, ← hX, jst_in x0 (by omega), Option.bind_some, ← G1, jlt_in x0 (by omega), Option.bind_some, g1 1000 (H + 154) x (by omega), v3, jst_in x0 (by omega), Option.bind_some, ← G2, i1, eu_X37_makeObject_94]; unfold du_X37_makeObject_94
      rw [W32_in (by omega) (by omega)]
    have fm3 : jFm w2 w3 (H + 25) 34 := by rw [← hX]; exact i2.1
    obtain ⟨w, j1, j2, j3⟩ := ym_secs hX m w3 (x + 1) (hV2.fm fm3) (by omega) (by omega) i3
    refine ⟨w, ?_, (mf.trans i2).trans j2, j3⟩
    rw [eu_X37_makeObject_9] at j1 ⊢; unfold du_X37_makeObject_9 at j1 ⊢
    rw [jlpW_l st]; exact j1
/-- the twin's object with all its bytes *-/
theorem ym_full (hX : X = H + 25) (hV : yVal t H sz al by') (hF : oFu o sz al by') (hv : vOb o) : ∃ w, m_X37_makeObject t H = u_X37_makeObject_100 w H ∧ tMk w X o dNew ∧ jFm t w X 34 ∧ ∃ q, m_X40_clear t X = some q ∧ yMf q.1 w X := by
  rw [em_X37_makeObject]; unfold dm_X37_makeObject
  obtain ⟨q, e1, e2, e3⟩ := t_mclear (s := t) (X := X)
  rw [← hX, e1, Option.bind_some]
  have fm : jFm t q.1 (H + 25) 34 := by rw [← hX]; exact e2
  obtain ⟨w, i1, i2, i3⟩ := ym_secs hX 4 q.1 0 (hV.fm fm) (by decide) (by decide) ⟨fun y y0 y1 => by omega, fun y i y0 y1 => by omega, fun i i0 i1 => by omega⟩
  obtain ⟨⟨-, -, ⟨n1, n2, n3⟩, -⟩, -, ⟨d1, d2⟩, hvd⟩ := e3
  obtain ⟨f1, f2, f3, f4, f5⟩ := hF
  refine ⟨w, i1, ⟨⟨fun x x0 x1 => ?_, fun x k x0 x1 k0 k1 => ?_, ⟨?_, ?_, ?_⟩, fun k k0 k1 => by omega, fun k k0 k1 => by omega, fun k k0 k1 => by omega⟩, hv, ⟨?_, fun i i0 i1 => ?_⟩, hvd⟩, e2.trans i2.1, q, rfl, i2⟩
  · obtain ⟨a1, a2⟩ := i3.1 x x0 x1
    obtain ⟨b1, b2⟩ := f1 x x0 x1
    rw [show 4 * (0 : Int) + x = x by omega, a1, a2, b1, b2]; exact ⟨rfl, rfl⟩
  · obtain ⟨b1, b2⟩ := f1 x x0 (by omega)
    rw [show 6144 * (0 : Int) + (2048 * x + k) = 2048 * x + k by omega, i3.2.1 x k x0 (by omega) x1 k0 (by omega), f2 x k x0 x1 k0 (by omega)]
  · rw [i2.2 _ _ _ (by omega), n1, f3]; rfl
  · rw [i2.2 _ _ _ (by omega), n2, f4]; rfl
  · rw [i2.2 _ _ _ (by omega), n3, f5]; rfl
  · rw [i2.2 _ _ _ (by omega)]; exact d1
  · rw [i2.2 _ _ _ (by omega)]; exact d2 i i0 i1
end jTmk9
