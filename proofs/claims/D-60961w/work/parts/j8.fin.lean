/-! the object comes to be written: bytes, sizes, alignments, both sides *-/
set_option maxRecDepth 100000
section jFin
variable {s t u w s0 t0 : jS} {v A H b lo k c a x y n j m i O X z : Int} {o o' : Int → Int → Int → Int} {d : Int → Int} {sz al : Int → Int} {by' : Int → Int → Int} {NL : List (List Int)} {I : pI} {OL : List pvO} {SL : List pvS}
/-- an object whose sections before x are full, x has k bytes *-/
def oBs (o : Int → Int → Int → Int) (sz : Int → Int) (by' : Int → Int → Int) (x k : Int) : Prop := (∀ y, 0 ≤ y → y < x → o 1 y 0 = sz y ∧ ∀ i, 0 ≤ i → i < sz y → o 0 y i = by' y i) ∧ o 1 x 0 = k ∧ (∀ i, 0 ≤ i → i < k → o 0 x i = by' x i) ∧ (∀ y, x < y → y < 4 → o 1 y 0 = 0) ∧ (∀ y, 0 ≤ y → y < 4 → o 1 y 1 = 1) ∧ o 2 0 0 = 0 ∧ o 2 1 0 = 0 ∧ o 2 2 0 = 0
theorem oBs.new : oBs oNew sz by' 0 0 := by
  refine ⟨fun y y0 y1 => by omega, rfl, fun i i0 i1 => by omega, fun y y0 y1 => ?_, fun y y0 y1 => ?_, rfl, rfl, rfl⟩
  · unfold oNew; rw [if_neg (by omega)]
  · unfold oNew; rw [if_pos ⟨rfl, rfl⟩]
theorem oBs.put (h : oBs o sz by' x k) (k0 : 0 ≤ k) (hv : v = by' x k) : oBs (oPut o x v) sz by' x (k + 1) := by
  obtain ⟨h1, h2, h3, h4, h5, h6, h7, h8⟩ := h
  unfold oPut
  rw [h2]
  refine ⟨fun y y0 y1 => ⟨?_, fun i i0 i1 => ?_⟩, ?_, fun i i0 i1 => ?_, fun y y0 y1 => ?_, fun y y0 y1 => ?_, ?_, ?_, ?_⟩
  · rw [ou_neg (by omega), ou_neg (by omega)]; exact (h1 y y0 y1).1
  · rw [ou_neg (by omega), ou_neg (by omega)]; exact (h1 y y0 y1).2 i i0 i1
  · rw [ou_pos ⟨rfl, rfl, rfl⟩]
  · rw [ou_neg (by omega)]
    by_cases c : i = k
    · rw [ou_pos ⟨rfl, rfl, c⟩, c]; exact hv
    · rw [ou_neg (by omega)]; exact h3 i i0 (by omega)
  · rw [ou_neg (by omega), ou_neg (by omega)]; exact h4 y y0 y1
  · rw [ou_neg (by omega), ou_neg (by omega)]; exact h5 y y0 y1
  · rw [ou_neg (by omega), ou_neg (by omega)]; exact h6
  · rw [ou_neg (by omega), ou_neg (by omega)]; exact h7
  · rw [ou_neg (by omega), ou_neg (by omega)]; exact h8
theorem oBs.next (h : oBs o sz by' x (sz x)) (x0 : 0 ≤ x) (x1 : x + 1 < 4) : oBs o sz by' (x + 1) 0 := by
  obtain ⟨h1, h2, h3, h4, h5, h6⟩ := h
  refine ⟨fun y y0 y1 => ?_, h4 (x + 1) (by omega) x1, fun i i0 i1 => by omega, fun y y0 y1 => h4 y (by omega) y1, h5, h6⟩
  by_cases c : y = x
  · rw [c]; exact ⟨h2, h3⟩
  · exact h1 y y0 (by omega)
/-- an object with its bytes, sizes, alignments *-/
def oFu (o : Int → Int → Int → Int) (sz al : Int → Int) (by' : Int → Int → Int) : Prop := (∀ y, 0 ≤ y → y < 4 → o 1 y 0 = sz y ∧ o 1 y 1 = al y) ∧ (∀ y i, 0 ≤ y → y < 3 → 0 ≤ i → i < sz y → o 0 y i = by' y i) ∧ o 2 0 0 = 0 ∧ o 2 1 0 = 0 ∧ o 2 2 0 = 0
/-- the assembler's numbers, as values *-/
def aVal (s : jS) (A : Int) (sz : Int → Int) (by' : Int → Int → Int) (al : Int → Int) : Prop := (∀ x, 0 ≤ x → x < 4 → jf s 1000 (A + 7) x = sz x ∧ (0 ≤ sz x ∧ sz x ≤ szM x) ∧ (0 ≤ jf s 1000 (A + 8) x ∧ jf s 1000 (A + 8) x ≤ 6) ∧ al x = 2 ^ (jf s 1000 (A + 8) x).toNat) ∧ ∀ x i, 0 ≤ x → x < 3 → 0 ≤ i → i < sz x → jf s 1001 (A + 3 + 1 + 1 * x) i = sb (by' x i) ∧ 0 ≤ by' x i ∧ by' x i < 256
theorem aVal.fx (h : aVal s A sz by' al) (g : jFx s u O 1858) (hd : O + 1858 ≤ A) : aVal u A sz by' al := by
  obtain ⟨h1, h2⟩ := h
  refine ⟨fun x x0 x1 => ?_, fun x i x0 x1 i0 i1 => ?_⟩
  · rw [g.F (by omega), g.F (by omega)]; exact h1 x x0 x1
  · rw [g.F (by omega)]; exact h2 x i x0 x1 i0 i1
theorem shl_56 (h0 : 0 ≤ v) (h1 : v < 256) : L2i (L_shr (L_shl (sb v) 56) 56) % 256 = v := by
  have := shl56 (sb v)
  rw [sb_mod h0 h1] at this
  exact this
theorem fin_bytes (hA : A = O + 3872) : ∀ (m : Nat) (s : jS) (o : Int → Int → Int → Int) (x k : Int), aVal s A sz by' al → cMk s O o d → oBs o sz by' x k → 0 ≤ x → x < 3 → 0 ≤ k → k + m = sz x → ∃ u o', u_X33_finish_16 s A x k = u_X33_finish_54 u A x ∧ cMk u O o' d ∧ oBs o' sz by' x (sz x) ∧ jFx s u O 1858
  | 0, s, o, x, k, hV, hM, hB, x0, x1, k0, hk => by
    have ek : k = sz x := by omega
    have v1 := (hV.1 x x0 (by omega)).1
    refine ⟨s, o, ?_, hM, by rw [← ek]; exact hB, jFx.rfl⟩
    rw [eu_X33_finish_16]; unfold du_X33_finish_16
    refine jlpW_r (r := u_X33_finish_54 s A x) ?_
    show b_X33_finish_16 s A x k = _
    unfold b_X33_finish_16
    rw [jlt_in x0 (by omega), Option.bind_some, v1, if_neg (by omega)]
  | m + 1, s, o, x, k, hV, hM, hB, x0, x1, k0, hk => by
    obtain ⟨v1, v2, -⟩ := hV.1 x x0 (by omega)
    obtain ⟨w1, w2, w3⟩ := hV.2 x k x0 x1 k0 (by omega)
    have z2 : sz x ≤ 2048 := by have := v2.2; rw [szM_2 x x1 x0] at this; exact this
    have o1 : o 1 x 0 = k := hB.2.1
    obtain ⟨r, e1, e2, e3⟩ := c_put (p := L_shl (sb (by' x k)) 56) hM x0 x1 (shl_56 w2 w3)
    rw [if_pos (by omega)] at e3
    have st : jc3 b_X33_finish_16 [A, x, k] s = some (.inl (r.1, [A, x, k + 1])) := by
      show b_X33_finish_16 s A x k = _
      unfold b_X33_finish_16
      rw [jlt_in x0 (by omega), Option.bind_some, v1, if_pos (by omega), jix_in x0 x1, Option.bind_some, jlt_in k0 (by omega), Option.bind_some, w1, show A + -3872 = O by omega, e1, Option.bind_some, W32_in (by omega) (by omega)]
    obtain ⟨u, o', i1, i2, i3, i4⟩ := fin_bytes hA m r.1 (oPut o x (by' x k)) x (k + 1) (hV.fx e2 (by omega)) e3 (hB.put k0 rfl) x0 x1 (by omega) (by omega)
    refine ⟨u, o', ?_, i2, i3, e2.trans i4⟩
    rw [eu_X33_finish_16] at i1 ⊢; unfold du_X33_finish_16 at i1 ⊢
    rw [jlpW_l st]; exact i1
theorem fin_secs (hA : A = O + 3872) : ∀ (m : Nat) (s : jS) (o : Int → Int → Int → Int) (x : Int), aVal s A sz by' al → cMk s O o d → oBs o sz by' x 0 → 0 ≤ x → x + m = 3 → ∃ u o', u_X33_finish_9 s A x = u_X33_finish_60 u A ∧ cMk u O o' d ∧ oBs o' sz by' 3 0 ∧ jFx s u O 1858
  | 0, s, o, x, hV, hM, hB, x0, hk => by
    have e3 : x = 3 := by omega
    subst e3
    refine ⟨s, o, ?_, hM, hB, jFx.rfl⟩
    rw [eu_X33_finish_9]; unfold du_X33_finish_9
    refine jlpW_r (r := u_X33_finish_60 s A) ?_
    show b_X33_finish_9 s A 3 = _
    unfold b_X33_finish_9
    rw [if_neg (by decide)]
  | m + 1, s, o, x, hV, hM, hB, x0, hk => by
    have zx := (hV.1 x x0 (by omega)).2.1.1
    obtain ⟨u, o', i1, i2, i3, i4⟩ := fin_bytes hA (sz x).toNat s o x 0 hV hM hB x0 (by omega) (Int.le_refl _) (by omega)
    have st : jc2 b_X33_finish_9 [A, x] s = some (.inl (u, [A, x + 1])) := by
      show b_X33_finish_9 s A x = _
      unfold b_X33_finish_9
      rw [if_pos (by omega), i1, eu_X33_finish_54]; unfold du_X33_finish_54
      rw [W32_in (by omega) (by omega)]
    obtain ⟨u2, o2, j1, j2, j3, j4⟩ := fin_secs hA m u o' (x + 1) (hV.fx i4 (by omega)) i2 (i3.next x0 (by omega)) (by omega) (by omega)
    refine ⟨u2, o2, ?_, j2, j3, i4.trans j4⟩
    rw [eu_X33_finish_9] at j1 ⊢; unfold du_X33_finish_9 at j1 ⊢
    rw [jlpW_l st]; exact j1
/-- alignments before x are as they shall be *-/
def oAl (o : Int → Int → Int → Int) (sz al : Int → Int) (by' : Int → Int → Int) (x : Int) : Prop := (∀ y, 0 ≤ y → y < 4 → o 1 y 0 = sz y) ∧ (∀ y, 0 ≤ y → y < x → o 1 y 1 = al y) ∧ (∀ y i, 0 ≤ y → y < 3 → 0 ≤ i → i < sz y → o 0 y i = by' y i) ∧ o 2 0 0 = 0 ∧ o 2 1 0 = 0 ∧ o 2 2 0 = 0
theorem fin_als (hA : A = O + 3872) : ∀ (m : Nat) (s : jS) (o : Int → Int → Int → Int) (x : Int), aVal s A sz by' al → cMk s O o d → oAl o sz al by' x → 0 ≤ x → x + m = 4 → ∃ u o', u_X33_finish_76 s A x = u_X33_finish_102 u A ∧ cMk u O o' d ∧ oAl o' sz al by' 4 ∧ jFx s u O 1858
  | 0, s, o, x, hV, hM, hB, x0, hk => by
    have e3 : x = 4 := by omega
    subst e3
    refine ⟨s, o, ?_, hM, hB, jFx.rfl⟩
    rw [eu_X33_finish_76]; unfold du_X33_finish_76
    refine jlpW_r (r := u_X33_finish_102 s A) ?_
    show b_X33_finish_76 s A 4 = _
    unfold b_X33_finish_76
    rw [if_neg (by decide)]
  | m + 1, s, o, x, hV, hM, hB, x0, hk => by
    obtain ⟨v1, v2, v3, v4⟩ := hV.1 x x0 (by omega)
    obtain ⟨r, e1, e2, e3⟩ := c_malign (x := x) (p := jf s 1000 (A + 8) x) hM x0 (by omega) v3.1 v3.2
    rw [← v4] at e3
    have st : jc2 b_X33_finish_76 [A, x] s = some (.inl (r.1, [A, x + 1])) := by
      show b_X33_finish_76 s A x = _
      unfold b_X33_finish_76
      rw [if_pos (by omega), jlt_in x0 (by omega), Option.bind_some, show A + -3872 = O by omega, e1, Option.bind_some, W32_in (by omega) (by omega)]
    obtain ⟨b1, b2, b3, b4, b5, b6⟩ := hB
    have hB' : oAl (ou o 1 x 1 (al x)) sz al by' (x + 1) := by
      refine ⟨fun y y0 y1 => ?_, fun y y0 y1 => ?_, fun y i y0 y1 i0 i1 => ?_, ?_, ?_, ?_⟩
      · rw [ou_neg (by omega)]; exact b1 y y0 y1
      · by_cases c : y = x
        · rw [c, ou_pos ⟨rfl, rfl, rfl⟩]
        · rw [ou_neg (by omega)]; exact b2 y y0 (by omega)
      · rw [ou_neg (by omega)]; exact b3 y i y0 y1 i0 i1
      · rw [ou_neg (by omega)]; exact b4
      · rw [ou_neg (by omega)]; exact b5
      · rw [ou_neg (by omega)]; exact b6
    obtain ⟨u2, o2, j1, j2, j3, j4⟩ := fin_als hA m r.1 _ (x + 1) (hV.fx e2 (by omega)) e3 hB' (by omega) (by omega)
    refine ⟨u2, o2, ?_, j2, j3, e2.trans j4⟩
    rw [eu_X33_finish_76] at j1 ⊢; unfold du_X33_finish_76 at j1 ⊢
    rw [jlpW_l st]; exact j1
/-- the component's object with all its bytes *-/
theorem fin_full (hA : A = O + 3872) (hV : aVal s A sz by' al) (hT : jTt s 33 O) (hL : cObL s (O + 1)) : ∃ u o, m_X33_finish s A = u_X33_finish_102 u A ∧ cMk u O o dNew ∧ oFu o sz al by' ∧ jFx s u O 1858 := by
  rw [em_X33_finish]; unfold dm_X33_finish
  obtain ⟨r, e1, e2, e3⟩ := c_mclear hT hL
  rw [show A + -3872 = O by omega, e1, Option.bind_some]
  obtain ⟨u, o, i1, i2, i3, i4⟩ := fin_secs hA 3 r.1 oNew 0 (hV.fx e2 (by omega)) e3 oBs.new (by decide) (by decide)
  rw [i1, eu_X33_finish_60]; unfold du_X33_finish_60
  have hV2 := (hV.fx e2 (by omega)).fx i4 (by omega)
  obtain ⟨v1, v2, -⟩ := hV2.1 3 (by decide) (by decide)
  have z3 : sz 3 ≤ 4096 := v2.2
  rw [jlt_in (by decide) (by decide), Option.bind_some, v1, show A + -3872 = O by omega]
  obtain ⟨r2, j1, j2, j3⟩ := c_bss (n := sz 3) i2
  rw [if_pos (by omega)] at j3
  rw [j1, Option.bind_some]
  obtain ⟨b1, b2, b3, b4, b5, b6, b7, b8⟩ := i3
  have hB : oAl (ou o 1 3 0 (sz 3)) sz al by' 0 := by
    refine ⟨fun y y0 y1 => ?_, fun y y0 y1 => by omega, fun y i y0 y1 i0 i1 => ?_, ?_, ?_, ?_⟩
    · by_cases c : y = 3
      · rw [c, ou_pos ⟨rfl, rfl, rfl⟩]
      · rw [ou_neg (by omega)]; exact (b1 y y0 (by omega)).1
    · rw [ou_neg (by omega)]; exact (b1 y y0 (by omega)).2 i i0 i1
    · rw [ou_neg (by omega)]; exact b6
    · rw [ou_neg (by omega)]; exact b7
    · rw [ou_neg (by omega)]; exact b8
  obtain ⟨u2, o2, k1, k2, k3, k4⟩ := fin_als hA 4 r2.1 _ 0 (hV2.fx j2 (by omega)) j3 hB (by decide) (by decide)
  exact ⟨u2, o2, k1, k2, ⟨fun y y0 y1 => ⟨k3.1 y y0 y1, k3.2.1 y y0 y1⟩, k3.2.2⟩, ((e2.trans i4).trans j2).trans k4⟩
end jFin
