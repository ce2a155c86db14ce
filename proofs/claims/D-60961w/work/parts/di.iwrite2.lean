/-! writing an image: the component's head, rows -/
section jIwrite2
variable {s t u w : jS} {B N R n p f a b x y e k z v d lo m S O : Int} {g g' : Int → Int} {i j : Int → Int → Int → Int}
/-- sorts of segments stand where they are told -/
def cIs (s : jS) (b : Int) : Prop := ∀ x, 0 ≤ x → x < 3 → jf s 28 (vsg b x) 0 = x
/-- what the writer has -/
def iV (s : jS) (R b : Int) (i : Int → Int → Int → Int) : Prop := jTt s 46 R ∧ jTt s 43 b ∧ cIm s b i ∧ cIs s b ∧ vIm i ∧ (b + 9 ≤ R ∨ R + 4 ≤ b) ∧ ¬ i 1 0 0 = 0
/-- so far -/
def iZ (s u : jS) (R : Int) (g : Int → Int) (p : Int) : Prop := jFx s u R 4 ∧ iw u (R + 1) g p
theorem iV.fx (h : iV s R b i) (k : jFx s u R 4) : iV u R b i := ⟨h.1.ext k.2, h.2.1.ext k.2, h.2.2.1.kf k (by have := h.2.2.2.2.2.1; omega), fun x x0 x1 => by rw [k.F (by have := h.2.2.2.2.2.1; unfold vsg; omega)]; exact h.2.2.2.1 x x0 x1, h.2.2.2.2⟩
theorem iZ.nx (h : iZ s u R g p) {q : jS} (k : jFx u q (R + 1) 2) {g' : Int → Int} {p' : Int} (w : iw q (R + 1) g' p') : iZ s q R g' p' := ⟨h.1.trans (k.wide (by omega) (by omega)), w⟩
theorem T46 (h : jTt s 46 R) : jTt s 45 (R + 1) ∧ jTt s 47 (R + 3) := by
  have f0 := h.fld (k := 0) (o := 1) (t' := 45) (by decide)
  have f1 := h.fld (k := 1) (o := 3) (t' := 47) (by decide)
  exact ⟨f0.2, f1.2⟩
theorem i_whead (h : iV s R b i) (hz : iZ s u R g 0) (hx : x = rI i 3 + 1) : jE (m_X26_header u R b x) fun q => ∃ g', iZ s q.1 R g' 52 ∧ pIh i g' := by
  have J : ∀ {v : Int}, -2147483648 ≤ v → v ≤ 2147483647 → jin v := fun a b => ⟨a, b⟩
  have hr := rI_lo h.2.2.2.2.1 (x := 3) (by omega) (by omega)
  have hent := h.2.2.2.2.1.2.1
  rw [em_X26_header]; unfold dm_X26_header
  refine jS_call (i_p4 hz.2 (by omega) (J (by omega) (by omega))) fun q1 ⟨k1, w1⟩ => ?_
  have S1 := hz.nx k1 w1
  refine jS_call (i_p4 S1.2 (by omega) (J (by omega) (by omega))) fun q2 ⟨k2, w2⟩ => ?_
  have S2 := S1.nx k2 w2
  refine jS_call (i_p4 S2.2 (by omega) (J (by omega) (by omega))) fun q3 ⟨k3, w3⟩ => ?_
  have S3 := S2.nx k3 w3
  refine jS_call (i_p4 S3.2 (by omega) (J (by omega) (by omega))) fun q4 ⟨k4, w4⟩ => ?_
  have S4 := S3.nx k4 w4
  refine jS_call (i_p2 S4.2 (by omega) (J (by omega) (by omega))) fun q5 ⟨k5, w5⟩ => ?_
  have S5 := S4.nx k5 w5
  refine jS_call (i_p2 S5.2 (by omega) (J (by omega) (by omega))) fun q6 ⟨k6, w6⟩ => ?_
  have S6 := S5.nx k6 w6
  refine jS_call (i_p4 S6.2 (by omega) (J (by omega) (by omega))) fun q7 ⟨k7, w7⟩ => ?_
  have S7 := S6.nx k7 w7
  have H7 := h.fx S7.1
  obtain ⟨⟨b0, b1⟩, -⟩ := T43 H7.2.1
  rw [jrd_in b0 b1, Option.bind_some, H7.2.2.1.2.1]
  refine jS_call (i_p4 S7.2 (by omega) hent) fun q8 ⟨k8, w8⟩ => ?_
  have S8 := S7.nx k8 w8
  refine jS_call (i_p4 S8.2 (by omega) (J (by omega) (by omega))) fun q9 ⟨k9, w9⟩ => ?_
  have S9 := S8.nx k9 w9
  refine jS_call (i_p4 S9.2 (by omega) (J (by omega) (by omega))) fun q10 ⟨k10, w10⟩ => ?_
  have S10 := S9.nx k10 w10
  have H10 := h.fx S10.1
  rw [jct_in H10.2.1, i_count H10.2.1 H10.2.2.1 H10.2.2.2.2.1, Option.bind_some]
  have eh : (if 0 < cn (ctI i 1) (if i 1 0 0 = 0 then 0 else i 1 0 2 / 2) then u_X26_header_105 q10.1 R x 1 (R + 1) else u_X26_header_105 q10.1 R x 0 (R + 1)) = u_X26_header_105 q10.1 R x (hvI i) (R + 1) := by
    unfold hvI
    generalize cn (ctI i 1) (if i 1 0 0 = 0 then 0 else i 1 0 2 / 2) = K
    by_cases c : 0 < K
    · rw [if_pos c, if_pos c]
    · rw [if_neg c, if_neg c]
  have hv : 0 ≤ hvI i ∧ hvI i ≤ 1 := by
    unfold hvI
    generalize cn (ctI i 1) (if i 1 0 0 = 0 then 0 else i 1 0 2 / 2) = K
    split <;> omega
  rw [eh, eu_X26_header_105]; unfold du_X26_header_105
  refine jS_call (i_p4 S10.2 (by omega) (J (by omega) (by omega))) fun q11 ⟨k11, w11⟩ => ?_
  have S11 := S10.nx k11 w11
  refine jS_call (i_p2 S11.2 (by omega) (J (by omega) (by omega))) fun q12 ⟨k12, w12⟩ => ?_
  have S12 := S11.nx k12 w12
  refine jS_call (i_p2 S12.2 (by omega) (J (by omega) (by omega))) fun q13 ⟨k13, w13⟩ => ?_
  have S13 := S12.nx k13 w13
  refine jS_call (i_p2 S13.2 (by omega) (J (by omega) (by omega))) fun q14 ⟨k14, w14⟩ => ?_
  have S14 := S13.nx k14 w14
  refine jS_call (i_p4 S14.2 (by omega) (J (by omega) (by omega))) fun q15 ⟨k15, w15⟩ => ?_
  have S15 := S14.nx k15 w15
  refine jS_call (i_p2 S15.2 (by omega) (J (by omega) (by omega))) fun q16 ⟨k16, w16⟩ => ?_
  have S16 := S15.nx k16 w16
  simp only [Int.reduceAdd] at S16
  subst hx
  refine jS_end ⟨_, S16, ?_⟩
  unfold pIh
  refine ⟨?_, ?_, fun k k0 k1 => ?_, ?_, ?_, ?_, ?_, ?_, ?_, ?_, ?_, ?_, ?_, fun k k0 k1 => ?_⟩
  · repeat (first | exact gN_4 | refine B4.gn ?_ (by omega))
  · repeat (first | exact gN_4 | refine B4.gn ?_ (by omega))
  · rw [gN_lo (by omega), gN_lo (by omega), gN_lo (by omega), gN_lo (by omega), gN_lo (by omega), gN_lo (by omega), gN_lo (by omega), gN_lo (by omega), gN_lo (by omega), gN_lo (by omega), gN_lo (by omega), gN_lo (by omega)]
    by_cases c : k < 12
    · rw [gN_lo (by omega)]; exact gN_z (by omega)
    · exact gN_z (by omega)
  · repeat (first | exact gN_2 | refine B2.gn ?_ (by omega))
  · repeat (first | exact gN_2 | refine B2.gn ?_ (by omega))
  · repeat (first | exact gN_4 | refine B4.gn ?_ (by omega))
  · repeat (first | exact gN_4 | refine B4.gn ?_ (by omega))
  · repeat (first | exact gN_4 | refine B4.gn ?_ (by omega))
  · repeat (first | exact gN_4 | refine B4.gn ?_ (by omega))
  · repeat (first | exact gN_4 | refine B4.gn ?_ (by omega))
  · repeat (first | exact gN_2 | refine B2.gn ?_ (by omega))
  · repeat (first | exact gN_2 | refine B2.gn ?_ (by omega))
  · repeat (first | exact gN_2 | refine B2.gn ?_ (by omega))
  · by_cases c : k < 50
    · rw [gN_lo (by omega)]; exact gN_z (by omega)
    · exact gN_z (by omega)
theorem iV.sg (h : iV s R b i) (x0 : 0 ≤ x) (x1 : x < 3) : jrd s 27 b 0 = some (b + 1) ∧ jln s 1009 (b + 1) = some 3 ∧ jld s 1009 (b + 1) x = some (vsg b x) ∧ (0 ≤ vsg b x ∧ jK s (vsg b x) = 28) ∧ (jf s 28 (vsg b x) 1 = vsg b x + 1 ∧ 0 ≤ vsg b x + 1 ∧ jK s (vsg b x + 1) = 1001 ∧ jN s (vsg b x + 1) = 4096) := by
  obtain ⟨⟨t1, t2⟩, ⟨t3, t4, t5, t6, t7⟩, t8, t9, t10, t11⟩ := T43 h.2.1
  have T := T44 (t7 x x0 x1).2
  refine ⟨by rw [jrd_in t1 t2, t3], ?_, ?_, T.1, T.2⟩
  · unfold jln; rw [if_pos ⟨t4, t5⟩, t6]
  · unfold jld; rw [if_pos ⟨t4, t5, x0, by rw [t6]; exact x1⟩, (t7 x x0 x1).1]
theorem i_nsize (h : iV u R b i) : m_X26_noteSize u R b = some (nlI i) ∧ 28 ≤ nlI i ∧ nlI i ≤ 28 + 259 := by
  obtain ⟨m1, m2, m3⟩ := i_markBytes h.2.1 h.2.2.1 h.2.2.2.2.1 h.2.2.2.2.2.2
  rw [em_X26_noteSize]; unfold dm_X26_noteSize nlI up4
  rw [jct_in h.2.1, m1, Option.bind_some, jdv_in (by decide), Option.bind_some, W32_in (z := mkN i + 3) (by omega) (by omega), I_div_n (by omega) (by omega) (by omega) (by omega), W32_in (z := (mkN i + 3) / 4 * 4) (by omega) (by omega), W32_in (by omega) (by omega)]
  exact ⟨rfl, by omega, by omega⟩
/-- rows, their places still to come -/
def pIr0 (i : Int → Int → Int → Int) (g : Int → Int) (x : Int) : Prop := pRw g (52 + 32 * rI i x) 1 0 (i 1 x 1) (i 1 x 2) (i 1 x 2 + i 1 x 3) (rgI x) (i 2 1 0)
theorem pIh.of (h : pIh i g) (q : ∀ k, k < 52 → g' k = g k) : pIh i g' := by
  obtain ⟨h1, h2, h3, h4, h5, h6, h7, h8, h9, h10, h11, h12, h13, h14⟩ := h
  exact ⟨h1.of fun k k0 k1 => q k (by omega), h2.of fun k k0 k1 => q k (by omega), fun k k0 k1 => by rw [q k (by omega)]; exact h3 k k0 k1, h4.of fun k k0 k1 => q k (by omega), h5.of fun k k0 k1 => q k (by omega), h6.of fun k k0 k1 => q k (by omega), h7.of fun k k0 k1 => q k (by omega), h8.of fun k k0 k1 => q k (by omega), h9.of fun k k0 k1 => q k (by omega), h10.of fun k k0 k1 => q k (by omega), h11.of fun k k0 k1 => q k (by omega), h12.of fun k k0 k1 => q k (by omega), h13.of fun k k0 k1 => q k (by omega), fun k k0 k1 => by rw [q k (by omega)]; exact h14 k k0 k1⟩
theorem i_wrows (h : iV s R b i) (hz : iZ s u R g 52) (hh : pIh i g) {Q : jS × Int → Prop} (cont : ∀ t g', iZ s t R g' (52 + 32 * rI i 3) → pIh i g' → (∀ x, 0 ≤ x → x < 3 → ¬ i 1 x 0 = 0 → pIr0 i g' x) → jE (u_X26_write_140 t R b) Q) : jE (u_X26_write_75 u R b (b + 1) 3 0) Q := by
  have vi := h.2.2.2.2.1
  have pg := vi.2.2.1.lo
  have J : ∀ {v : Int}, -2147483648 ≤ v → v ≤ 2147483647 → jin v := fun a b => ⟨a, b⟩
  rw [eu_X26_write_75]; unfold du_X26_write_75
  refine jS_for (fun x t => ∃ g', iZ s t R g' (52 + 32 * rI i x) ∧ pIh i g' ∧ ∀ y, 0 ≤ y → y < x → ¬ i 1 y 0 = 0 → pIr0 i g' y) (fun x => [R, b, b + 1, 3, x]) 0 3 (by omega) ⟨g, hz, hh, fun y y0 y1 => by omega⟩ (fun x t x0 x1 ⟨g1, z1, z2, z3⟩ => ?_) (fun t ⟨g1, z1, z2, z3⟩ => ?_)
  · show jE (b_X26_write_75 t R b (b + 1) 3 x) _
    unfold b_X26_write_75
    have H := h.fx z1.1
    obtain ⟨-, -, s3, ⟨s4, s5⟩, -⟩ := H.sg x0 x1
    have hx := H.2.2.1.1 x x0 x1
    obtain ⟨r1, r2, r3, r4⟩ := rI_lo vi x0 (show x ≤ 3 by omega)
    have e134 : ∀ t, u_X26_write_134 t R b (b + 1) 3 x = some (.inl (t, [R, b, b + 1, 3, x + 1])) := fun t => by
      rw [eu_X26_write_134]; unfold du_X26_write_134
      rw [W32_in (by omega) (by omega)]
    have v0 := (vi.1 x x0 x1).1
    rw [if_pos x1, s3, Option.bind_some, jrd_in s4 s5, Option.bind_some, hx.1]
    by_cases c : i 1 x 0 = 0
    · rw [if_pos c, e134]
      refine jS_end ⟨rfl, g1, by rw [r4 x1, c, Int.add_zero]; exact z1, z2, fun y y0 y1 cy => ?_⟩
      by_cases q : y = x
      · subst q; exact absurd c cy
      · exact z3 y y0 (by omega) cy
    · obtain ⟨a1, a2, a3, -⟩ := hx.2 c
      have vv := (vi.1 x x0 x1).2 c
      obtain ⟨⟨b0, b1⟩, -⟩ := T43 H.2.1
      have e8 : m_X22_rightsOf t x = some (rgI x) := by rw [e_X22_rightsOf]; rfl
      rw [if_neg c, jrd_in s4 s5, Option.bind_some, a1, jrd_in s4 s5, Option.bind_some, a2, Option.bind_some, jrd_in s4 s5, Option.bind_some, a3, jrd_in s4 s5, Option.bind_some, H.2.2.2.1 x x0 x1, e8, Option.bind_some, jrd_in b0 b1, Option.bind_some, H.2.2.1.2.2.1, W32_in (z := i 1 x 2 + i 1 x 3) (by omega) (by omega)]
      have rg : 4 ≤ rgI x ∧ rgI x ≤ 6 := by unfold rgI; repeat' split; all_goals omega
      refine jS_call (i_wrow z1.2 (by omega) (J (by omega) (by omega)) (J (by omega) (by omega)) (J (by omega) (by omega)) (J (by omega) (by omega)) (J (by omega) (by omega)) (J (by omega) (by omega))) fun q ⟨k1, g2, w1, w2, w3⟩ => ?_
      rw [e134]
      refine jS_end ⟨rfl, g2, ?_, z2.of fun k hk => w2 k (by omega), fun y y0 y1 cy => ?_⟩
      · rw [r4 x1, show i 1 x 0 = 1 by omega, show 52 + 32 * (rI i x + 1) = 52 + 32 * rI i x + 32 by omega]
        exact z1.nx k1 w1
      · by_cases q : y = x
        · subst q; exact w3
        · obtain ⟨y1', y2', y3', y4'⟩ := rI_lo vi y0 (show y ≤ 3 by omega)
          have m2 : rI i (y + 1) ≤ rI i x := by
            have hA := (vi.1 0 (by omega) (by omega)).1
            have hB := (vi.1 1 (by omega) (by omega)).1
            have : (y = 0 ∧ x = 1) ∨ (y = 0 ∧ x = 2) ∨ (y = 1 ∧ x = 2) := by omega
            rcases this with ⟨e1, e2⟩ | ⟨e1, e2⟩ | ⟨e1, e2⟩ <;> subst e1 <;> subst e2
            · exact Int.le_refl _
            · show i 1 0 0 ≤ i 1 0 0 + i 1 1 0; omega
            · exact Int.le_refl _
          have vy := (vi.1 y y0 (by omega)).1
          rw [y4' (by omega)] at m2
          exact (z3 y y0 (by omega) cy).of fun k k0 k1 => w2 k (by omega)
  · show jE (b_X26_write_75 t R b (b + 1) 3 3) _
    unfold b_X26_write_75
    rw [if_neg (by omega)]
    exact jS_inr (cont t g1 z1 z2 z3)
end jIwrite2
