/-! the linker: a part, a plain piece, on both sides *-/
set_option maxRecDepth 100000
section jParts
variable {s t u w r q' : jS} {a b g k m n p v l x y c j X f i H C P Q P' Q' S Si w0 l0 c0 z0 rr : Int} {O : Int → Int → Int → Int → Int} {o : Int → Int → Int → Int} {d d' e z : Int → Int → Int} {E V : Int → Int}
/-- pieces' rows: z = 0 from, 1 bytes, 2 relocation (the twin's number, or -1), 3 unit -/
def cPz (C : Int) (s : jS) (d z : Int → Int → Int) : Prop := jf s 39 (C + 4275) 29 = d 0 1 ∧ (∀ k, 0 ≤ k → k < d 0 1 → jf s 1000 (C + 4275 + 25) k = z 0 k ∧ jf s 1000 (C + 4275 + 26) k = z 1 k ∧ (jf s 1000 (C + 4275 + 27) k = if z 2 k = -1 then -1 else z 2 k % 300) ∧ jf s 1000 (C + 4275 + 28) k = z 3 k) ∧ ∀ p, 0 ≤ p → p < d 0 0 → jf s 1000 (C + 4275 + 29) p = d 3 p ∧ jf s 1000 (C + 4275 + 30) p = d 4 p
def tPz (H : Int) (t : jS) (d z : Int → Int → Int) : Prop := (∀ k, 0 ≤ k → k < d 0 1 → jf t 1000 (H + 197) k = z 0 k ∧ jf t 1000 (H + 198) k = z 1 k ∧ jf t 1000 (H + 199) k = z 2 k) ∧ (∀ p, 0 ≤ p → p < d 0 0 → jf t 1000 (H + 200) p = d 3 p ∧ jf t 1000 (H + 201) p = d 4 p - d 3 p) ∧ (∀ k, 0 ≤ k → k < d 0 1 → z 2 k = -1 ∨ (0 ≤ z 2 k ∧ z 2 k < 1800) ∧ jf t 1000 (H + 203) (z 2 k) = k) ∧ ∀ i, 0 ≤ i → i < 1800 → (∀ k, 0 ≤ k → k < d 0 1 → ¬ z 2 k = i) → jf t 1000 (H + 203) i = -1
/-- one more row -/
def zP (z : Int → Int → Int) (N a n r x : Int) : Int → Int → Int := fun f i => if i = N ∧ f = 0 then a else if i = N ∧ f = 1 then n else if i = N ∧ f = 2 then r else if i = N ∧ f = 3 then x else z f i
theorem zP_no (h : ¬ (i = p ∧ 0 ≤ f ∧ f ≤ 3)) : zP z p a n rr x f i = z f i := by unfold zP; rw [if_neg (by omega), if_neg (by omega), if_neg (by omega), if_neg (by omega)]
theorem zP_at : zP z p a n rr x 0 p = a ∧ zP z p a n rr x 1 p = n ∧ zP z p a n rr x 2 p = rr ∧ zP z p a n rr x 3 p = x := by
  unfold zP
  exact ⟨if_pos ⟨rfl, rfl⟩, by rw [if_neg (by omega), if_pos ⟨rfl, rfl⟩], by rw [if_neg (by omega), if_neg (by omega), if_pos ⟨rfl, rfl⟩], by rw [if_neg (by omega), if_neg (by omega), if_neg (by omega), if_pos ⟨rfl, rfl⟩]⟩
theorem cPz.cg (h : cPz C s d z) (F : ∀ a k, C + 4275 + 25 ≤ a → a ≤ C + 4275 + 30 → jf u 1000 a k = jf s 1000 a k) (F1 : jf u 39 (C + 4275) 29 = jf s 39 (C + 4275) 29) : cPz C u d z := by
  obtain ⟨h1, h2, h3⟩ := h
  exact ⟨by rw [F1]; exact h1, fun k k0 k1 => by rw [F _ _ (by omega) (by omega), F _ _ (by omega) (by omega), F _ _ (by omega) (by omega), F _ _ (by omega) (by omega)]; exact h2 k k0 k1, fun p p0 p1 => by rw [F _ _ (by omega) (by omega), F _ _ (by omega) (by omega)]; exact h3 p p0 p1⟩
theorem tPz.cg (h : tPz H t d z) (F : ∀ a k, H + 197 ≤ a → a ≤ H + 203 → jf u 1000 a k = jf t 1000 a k) : tPz H u d z := by
  obtain ⟨h1, h2, h3, h4⟩ := h
  exact ⟨fun k k0 k1 => by rw [F _ _ (by omega) (by omega), F _ _ (by omega) (by omega), F _ _ (by omega) (by omega)]; exact h1 k k0 k1, fun p p0 p1 => by rw [F _ _ (by omega) (by omega), F _ _ (by omega) (by omega)]; exact h2 p p0 p1, fun k k0 k1 => by rw [F _ _ (by omega) (by omega)]; exact h3 k k0 k1, fun i i0 i1 hi => by rw [F _ _ (by omega) (by omega)]; exact h4 i i0 i1 hi⟩
/-- both layouts while they are built -/
def LBR (C H : Int) (s t : jS) (d z : Int → Int → Int) : Prop := vLy d ∧ (cBu s (C + 4275 + 1) d ∧ cPz C s d z) ∧ tLs t (H + 93) d ∧ tPz H t d z
/-- labels' rows and those of loose places stay -/
def jLb (C H : Int) (s t u w : jS) : Prop := ((∀ a k, C + 4275 + 22 ≤ a ∧ a ≤ C + 4275 + 24 ∨ C + 4275 + 31 ≤ a ∧ a ≤ C + 4275 + 32 → jf u 1000 a k = jf s 1000 a k) ∧ jf u 39 (C + 4275) 31 = jf s 39 (C + 4275) 31 ∧ ∀ k, jf u 1002 (C + 4275 + 37) k = jf s 1002 (C + 4275 + 37) k) ∧ ∀ a k, a = H + 195 ∨ a = H + 202 ∨ a = H + 204 → jf w 1000 a k = jf t 1000 a k
/-- what a step of building does, or that it can't -/
def bQ (C H : Int) (s t : jS) (P Q : Int) (d z : Int → Int → Int) (r : jS × Bool × Int) (w : jS) (good : Prop) : Prop := (lkX C H s t P Q r w ∧ ¬ good) ∨ (r.2.1 = false ∧ good ∧ LBR C H r.1 w d z ∧ cBW C s r.1 P Q ∧ tBW H t w ∧ jLb C H s t r.1 w)
theorem x_part (h : LBR C H s t d z) (hb : jBd s 2 15) (hC : 0 ≤ C ∧ C + 15464 ≤ jn s) (ht : jf t 41 H 99 = 0) (ho : 0 ≤ p ∧ p < 4) (hn : pPw n) : ∃ r q, m_X35_part s (C + 4275) p n = some r ∧ m_X37_newPart t H p n = some q ∧ (q.2 = -1 ∨ q.2 = d 0 0 ∧ d 0 0 < 32 ∧ r.2.2 = d 0 0) ∧ bQ C H s t 2 15 (dPt d p (lgF n)) z r q.1 (¬ q.2 = -1) := by
  obtain ⟨v, ⟨hc, hz⟩, hl, hy⟩ := h
  have v0 := v.1
  have v1 := v.2.1
  have n64 : 1 ≤ n ∧ n ≤ 64 := by unfold pPw at hn; omega
  have lg : 0 ≤ lgF n ∧ lgF n ≤ 12 := by
    unfold lgF; split
    · decide
    split
    · decide
    split
    · decide
    split
    · decide
    split
    · decide
    split <;> decide
  rw [em_X35_part, em_X37_newPart]; unfold dm_X35_part dm_X37_newPart
  rw [c_power n64.1 n64.2, t_logOf hn, Option.bind_some, Option.bind_some]
  obtain ⟨r, er, hr⟩ := c_lpart hc v ⟨by have := hb.1; omega, by have := hb.2; omega⟩ ho lg
  obtain ⟨q, eq, hq⟩ := t_lpart hl v ho lg
  rw [er, eq, Option.bind_some, Option.bind_some]
  rcases hr with ⟨c1, rfl⟩ | ⟨c1, r2, r3, r4⟩
  · rcases hq with ⟨-, rfl⟩ | ⟨c2, -⟩
    · dsimp only
      rw [if_pos rfl, if_pos rfl]
      obtain ⟨u, x, w, e1, e2, x0, hx⟩ := lkX.mk (C := C) (H := H) (f := 6) (s := s) (t := t) (by omega) ⟨by have := hb.1; omega, by have := hb.2; omega⟩ (by omega) ht (by decide) (-1) (-1)
      rw [e1, e2, Option.bind_some, Option.bind_some]
      dsimp only
      rw [jck0_in x0]
      exact ⟨_, _, rfl, rfl, .inl rfl, .inl ⟨hx.mono (by omega) (by omega), fun z => z rfl⟩⟩
    · omega
  · rcases hq with ⟨c2, -⟩ | ⟨c2, q2, q3, q4⟩
    · omega
    rw [r2, q2, if_neg (show ¬ d 0 0 = -1 by omega), if_neg (show ¬ d 0 0 = -1 by omega), jst_in v0.1 (by omega), Option.bind_some, jst_in v0.1 (by omega), Option.bind_some]
    have W0 := lbW.bw r4
    have r29 : jf r.1 39 (C + 4275) 29 = d 0 1 := by rw [r4.2 _ _ _ (by omega) (by omega)]; exact hz.1
    rw [r29]
    obtain ⟨y1, Y1⟩ : ∃ y1, y1 = jp r.1 1000 (C + 4275 + 29) (d 0 0) (d 0 1) := ⟨_, rfl⟩
    obtain ⟨f1, p1, -⟩ := jpF Y1
    rw [← Y1, f1 39 _ _ (by omega), r29, jst_in v0.1 (by omega), Option.bind_some]
    obtain ⟨y2, Y2⟩ : ∃ y2, y2 = jp y1 1000 (C + 4275 + 30) (d 0 0) (d 0 1) := ⟨_, rfl⟩
    obtain ⟨f2, p2, -⟩ := jpF Y2
    rw [← Y2, W32_in (by omega) (by omega)]
    obtain ⟨y3, E_y3⟩ : ∃ y3, y3 = jp y2 39 (C + 4275) 30 (d 0 0 + 1) := ⟨_, rfl⟩
    obtain ⟨f_y3, p_y3, -⟩ := jpF E_y3
    rw [jls_e, ← E_y3]
    have qn : jf q.1 45 (H + 93) 12 = d 0 1 := by rw [q3.1.2.2.1, dPt_no (by omega) (by omega)]
    rw [qn]
    obtain ⟨x1, X1⟩ : ∃ x1, x1 = jp q.1 1000 (H + 200) (d 0 0) (d 0 1) := ⟨_, rfl⟩
    obtain ⟨g1, u1, -⟩ := jpF X1
    rw [← X1, jst_in v0.1 (by omega), Option.bind_some]
    obtain ⟨x2, X2⟩ : ∃ x2, x2 = jp x1 1000 (H + 201) (d 0 0) 0 := ⟨_, rfl⟩
    obtain ⟨g2, u2, -⟩ := jpF X2
    rw [← X2]
    have D0 : dPt d p (lgF n) 0 0 = d 0 0 + 1 := dPt_0
    have D1 : dPt d p (lgF n) 0 1 = d 0 1 := dPt_no (by omega) (by omega)
    have FY : ∀ c a k, ¬ (c = 1000 ∧ (a = C + 4275 + 29 ∨ a = C + 4275 + 30) ∧ k = d 0 0) → ¬ (c = 39 ∧ a = C + 4275 ∧ k = 30) → jf y3 c a k = jf r.1 c a k := fun c a k h1 h2 => by rw [f_y3 _ _ _ (by omega), f2 _ _ _ (by omega), f1 _ _ _ (by omega)]
    have FX : ∀ c a k, ¬ (c = 1000 ∧ (a = H + 200 ∨ a = H + 201) ∧ k = d 0 0) → jf x2 c a k = jf q.1 c a k := fun c a k h1 => by rw [g2 _ _ _ (by omega), g1 _ _ _ (by omega)]
    have sm : jSm r.1 y3 := ((jSm.rfl.wr Y1).wr Y2).wr E_y3
    refine ⟨_, _, rfl, rfl, .inr ⟨rfl, by omega, rfl⟩, .inr ⟨rfl, by show ¬ d 0 0 = -1; omega, ⟨v.ptA (by omega) ho lg, ⟨?_, ?_⟩, ?_, ?_⟩, ((((W0.wr Y1 (by omega) (by omega)).wr Y2 (by omega) (by omega)).wr E_y3 (by omega) (by omega)).mono (by omega) (by omega)), ((tbW.bw q4).wr X1 (by omega)).wr X2 (by omega), ⟨⟨fun a k ha => by rw [FY _ _ _ (by omega) (by omega), r4.2 _ _ _ (by omega) (by omega)], by rw [FY _ _ _ (by omega) (by omega), r4.2 _ _ _ (by omega) (by omega)], fun k => by rw [FY _ _ _ (by omega) (by omega), r4.2 _ _ _ (by omega) (by omega)]⟩, fun a k ha => by rw [FX _ _ _ (by omega), q4.2 _ _ _ (by omega) (by omega)]⟩⟩⟩
    · refine r3.cg (r3.1.cg (v.ptA (by omega) ho lg) (by rw [sm.2.2.1]; exact Int.le_refl _) (fun a _ => by rw [sm.1, sm.2.1]; exact ⟨rfl, rfl⟩) (fun k k0 k1 => FY _ _ _ (by omega) (by omega)) (fun k => FY _ _ _ (by omega) (by omega)) (fun p _ _ => FY _ _ _ (by omega) (by omega)) (fun p _ _ => FY _ _ _ (by omega) (by omega)) (fun p _ _ => FY _ _ _ (by omega) (by omega)) (fun p _ _ k => FY _ _ _ (by omega) (by omega)) (fun p _ _ c j hc => FY _ _ _ (by omega) (by omega)) (fun p _ _ k => FY _ _ _ (by omega) (by omega))) (by rw [sm.2.2.1]; exact Int.le_refl _) (fun x _ => by rw [sm.1]) (fun c a k hq => FY _ _ _ (by omega) (by omega)) (fun k => FY _ _ _ (by omega) (by omega)) (fun k _ _ => FY _ _ _ (by omega) (by omega)) (by rw [FY _ _ _ (by omega) (by omega)]; exact r3.2.2.1) rfl fun _ => rfl
    · obtain ⟨h1, h2, h3⟩ := hz
      refine ⟨by rw [D1, FY _ _ _ (by omega) (by omega)]; exact r29, fun k k0 k1 => ?_, fun j j0 j1 => ?_⟩
      · rw [D1] at k1
        rw [FY _ _ _ (by omega) (by omega), FY _ _ _ (by omega) (by omega), FY _ _ _ (by omega) (by omega), FY _ _ _ (by omega) (by omega), r4.2 _ _ _ (by omega) (by omega), r4.2 _ _ _ (by omega) (by omega), r4.2 _ _ _ (by omega) (by omega), r4.2 _ _ _ (by omega) (by omega)]
        exact h2 k k0 k1
      · rw [D0] at j1
        by_cases cj : j = d 0 0
        · rw [cj, dPt_3, dPt_4, f_y3 _ _ _ (by omega), f_y3 _ _ _ (by omega), f2 _ (C + 4275 + 29) _ (by omega)]; exact ⟨p1, p2⟩
        · rw [dPt_no (f := 3) (by omega) (by omega), dPt_no (f := 4) (by omega) (by omega), FY _ _ _ (by omega) (by omega), FY _ _ _ (by omega) (by omega), r4.2 _ _ _ (by omega) (by omega), r4.2 _ _ _ (by omega) (by omega)]
          exact h3 j j0 (by omega)
    · obtain ⟨a1, a2, a3, a4, a5, a6, a7⟩ := q3
      refine ⟨by rw [FX _ _ _ (by omega), FX _ _ _ (by omega), FX _ _ _ (by omega), FX _ _ _ (by omega)]; exact a1, fun i o0 o1 => by rw [FX _ _ _ (by omega)]; exact a2 i o0 o1, fun p p0 q1 => by rw [FX _ _ _ (by omega), FX _ _ _ (by omega)]; exact a3 p p0 q1, fun p p0 q1 => by rw [FX _ _ _ (by omega)]; exact a4 p p0 q1, fun k k0 k1 => ?_, fun k k0 k1 hk => by rw [FX _ _ _ (by omega)]; exact a6 k k0 k1 hk, fun l l0 l1 => by rw [FX _ _ _ (by omega), FX _ _ _ (by omega)]; exact a7 l l0 l1⟩
      have := a5 k k0 k1
      rw [FX _ (H + 93 + 11) _ (by omega), FX _ (H + 93 + 12) _ (by omega), FX _ (H + 93 + 13) _ (by omega), FX _ (H + 93 + 14) _ (by omega), FX _ (H + 93 + 15) _ (by omega), FX _ (H + 93 + 16) _ (by omega), FX _ (H + 93 + 17) _ (by omega), FX _ (H + 93 + 18) _ (by omega), FX _ (H + 93 + 19) _ (by omega)]
      exact this
    · obtain ⟨a1, a2, a3, a4⟩ := hy
      have Q : ∀ a k, H + 197 ≤ a → jf q.1 1000 a k = jf t 1000 a k := fun a k ha => q4.2 _ _ _ (by omega) (by omega)
      refine ⟨fun k k0 k1 => ?_, fun j j0 j1 => ?_, fun k k0 k1 => ?_, fun i i0 i1 hi => ?_⟩
      · rw [D1] at k1
        rw [FX _ _ _ (by omega), FX _ _ _ (by omega), FX _ _ _ (by omega), Q _ _ (by omega), Q _ _ (by omega), Q _ _ (by omega)]; exact a1 k k0 k1
      · rw [D0] at j1
        by_cases cj : j = d 0 0
        · rw [cj, dPt_3, dPt_4, g2 _ (H + 200) _ (by omega), Int.sub_self]; exact ⟨u1, u2⟩
        · rw [dPt_no (f := 3) (by omega) (by omega), dPt_no (f := 4) (by omega) (by omega), FX _ _ _ (by omega), FX _ _ _ (by omega), Q _ _ (by omega), Q _ _ (by omega)]
          exact a2 j j0 (by omega)
      · rw [D1] at k1
        rw [FX _ _ _ (by omega), Q _ _ (by omega)]; exact a3 k k0 k1
      · rw [FX _ _ _ (by omega), Q _ _ (by omega)]
        exact a4 i i0 i1 fun k k0 k1 => hi k k0 (by rw [D1]; exact k1)
/-- a piece's rows, the component -/
theorem c_piece (hd : cPz C u d z) (v : vLy d) (h0 : 0 < d 0 0) (hN : d 0 1 < 256) (hr : y = if rr = -1 then -1 else rr % 300) : ∃ w, m_X35_piece u (C + 4275) (d 0 1) (d 0 0 - 1) x a n y = some (w, false, 0) ∧ cPz C w (dPc d Si m w0 l0 c0 z0) (zP z (d 0 1) a n rr x) ∧ jSm u w ∧ (∀ c b k, ¬ (c = 1000 ∧ C + 4275 + 25 ≤ b ∧ b ≤ C + 4275 + 30) → ¬ (c = 39 ∧ b = C + 4275 ∧ k = 29) → jf w c b k = jf u c b k) := by
  have v0 := v.1
  have v1 := v.2.1
  obtain ⟨h1, h2, h3⟩ := hd
  rw [em_X35_piece]; unfold dm_X35_piece
  rw [if_neg (by omega), jst_in v1.1 hN, Option.bind_some]
  obtain ⟨y1, Y1⟩ : ∃ y1, y1 = jp u 1000 (C + 4275 + 25) (d 0 1) a := ⟨_, rfl⟩
  obtain ⟨f1, p1, -⟩ := jpF Y1
  rw [← Y1, jst_in v1.1 hN, Option.bind_some]
  obtain ⟨y2, Y2⟩ : ∃ y2, y2 = jp y1 1000 (C + 4275 + 26) (d 0 1) n := ⟨_, rfl⟩
  obtain ⟨f2, p2, -⟩ := jpF Y2
  rw [← Y2, jst_in v1.1 hN, Option.bind_some]
  obtain ⟨y3, Y3⟩ : ∃ y3, y3 = jp y2 1000 (C + 4275 + 27) (d 0 1) y := ⟨_, rfl⟩
  obtain ⟨f3, p3, -⟩ := jpF Y3
  rw [← Y3, jst_in v1.1 hN, Option.bind_some]
  obtain ⟨y4, Y4⟩ : ∃ y4, y4 = jp y3 1000 (C + 4275 + 28) (d 0 1) x := ⟨_, rfl⟩
  obtain ⟨f4, p4, -⟩ := jpF Y4
  rw [← Y4, W32_in (by omega) (by omega)]
  obtain ⟨y5, E_y5⟩ : ∃ y5, y5 = jp y4 39 (C + 4275) 29 (d 0 1 + 1) := ⟨_, rfl⟩
  obtain ⟨f_y5, p_y5, -⟩ := jpF E_y5
  rw [jls_e, ← E_y5]
  rw [p_y5, jst_in (by omega) (by omega), Option.bind_some]
  obtain ⟨y6, Y6⟩ : ∃ y6, y6 = jp y5 1000 (C + 4275 + 30) (d 0 0 - 1) (d 0 1 + 1) := ⟨_, rfl⟩
  obtain ⟨f6, p6, -⟩ := jpF Y6
  rw [← Y6]
  have FY : ∀ c b k, ¬ (c = 1000 ∧ C + 4275 + 25 ≤ b ∧ b ≤ C + 4275 + 28 ∧ k = d 0 1) → ¬ (c = 39 ∧ b = C + 4275 ∧ k = 29) → ¬ (c = 1000 ∧ b = C + 4275 + 30 ∧ k = d 0 0 - 1) → jf y6 c b k = jf u c b k := fun c b k q1 q2 q3 => by
    rw [f6 _ _ _ (by omega), f_y5 _ _ _ (by omega), f4 _ _ _ (by omega), f3 _ _ _ (by omega), f2 _ _ _ (by omega), f1 _ _ _ (by omega)]
  obtain ⟨z1, z2, z3, z4⟩ := zP_at (z := z) (p := d 0 1) (a := a) (n := n) (rr := rr) (x := x)
  refine ⟨y6, rfl, ⟨?_, fun k k0 k1 => ?_, fun p p0 p1 => ?_⟩, (((((jSm.rfl.wr Y1).wr Y2).wr Y3).wr Y4).wr E_y5).wr Y6, fun c b k q1 q2 => FY _ _ _ (by omega) (by omega) (by omega)⟩
  · rw [dPc_0, f6 _ _ _ (by omega)]; exact p_y5
  · rw [dPc_0] at k1
    by_cases ck : k = d 0 1
    · rw [ck, z1, z2, z3, z4, f6 _ _ _ (by omega), f6 _ _ _ (by omega), f6 _ _ _ (by omega), f6 _ _ _ (by omega), f_y5 _ _ _ (by omega), f_y5 _ _ _ (by omega), f_y5 _ _ _ (by omega), f_y5 _ _ _ (by omega)]
      refine ⟨?_, ?_, ?_, p4⟩
      · rw [f4 _ _ _ (by omega), f3 _ _ _ (by omega), f2 _ _ _ (by omega)]; exact p1
      · rw [f4 _ _ _ (by omega), f3 _ _ _ (by omega)]; exact p2
      · rw [f4 _ _ _ (by omega), p3]; exact hr
    · rw [zP_no (by omega), zP_no (by omega), zP_no (by omega), zP_no (by omega), FY _ _ _ (by omega) (by omega) (by omega), FY _ _ _ (by omega) (by omega) (by omega), FY _ _ _ (by omega) (by omega) (by omega), FY _ _ _ (by omega) (by omega) (by omega)]
      exact h2 k k0 (by omega)
  · rw [dPc_no (by omega) (by omega) (by omega)] at p1
    rw [dPc_no (f := 3) (by omega) (by omega) (by omega), FY _ (C + 4275 + 29) _ (by omega) (by omega) (by omega)]
    by_cases cp : p = d 0 0 - 1
    · rw [cp, dPc_4]; exact ⟨(h3 _ (by omega) (by omega)).1, p6⟩
    · rw [dPc_no (f := 4) (by omega) (by omega) (by omega), FY _ (C + 4275 + 30) _ (by omega) (by omega) (by omega)]; exact h3 p p0 p1
/-- the twin -/
theorem t_piece (hd : tPz H u d z) (v : vLy d) (h0 : 0 < d 0 0) (hN : d 0 1 < 256) (hr : rr = -1 ∨ (0 ≤ rr ∧ rr < 1800) ∧ ∀ k, 0 ≤ k → k < d 0 1 → ¬ z 2 k = rr) : ∃ w, m_X37_added u H (d 0 1) (d 0 0 - 1) a n rr = some (w, 1) ∧ tPz H w (dPc d Si m w0 l0 c0 z0) (zP z (d 0 1) a n rr x) ∧ jSm u w ∧ (∀ c b k, ¬ (c = 1000 ∧ (H + 197 ≤ b ∧ b ≤ H + 199 ∨ b = H + 201 ∨ b = H + 203)) → jf w c b k = jf u c b k) := by
  have v0 := v.1
  have v1 := v.2.1
  obtain ⟨h1, h2, h3, h4⟩ := hd
  have hpp := v.ptN h0
  rw [em_X37_added]; unfold dm_X37_added
  rw [if_neg (by omega), jst_in v1.1 hN, Option.bind_some]
  obtain ⟨y1, Y1⟩ : ∃ y1, y1 = jp u 1000 (H + 197) (d 0 1) a := ⟨_, rfl⟩
  obtain ⟨f1, p1, -⟩ := jpF Y1
  rw [← Y1, jst_in v1.1 hN, Option.bind_some]
  obtain ⟨y2, Y2⟩ : ∃ y2, y2 = jp y1 1000 (H + 198) (d 0 1) n := ⟨_, rfl⟩
  obtain ⟨f2, p2, -⟩ := jpF Y2
  rw [← Y2, jst_in v1.1 hN, Option.bind_some]
  obtain ⟨y3, Y3⟩ : ∃ y3, y3 = jp y2 1000 (H + 199) (d 0 1) rr := ⟨_, rfl⟩
  obtain ⟨f3, p3, -⟩ := jpF Y3
  obtain ⟨a1, a2⟩ := h2 (d 0 0 - 1) (by omega) (by omega)
  have g3 := v.f (p := d 0 0 - 1) (by omega) (by omega)
  rw [hpp] at a2 g3
  rw [← Y3, jlt_in (by omega) (by omega), Option.bind_some, f3 _ _ _ (by omega), f2 _ _ _ (by omega), f1 _ _ _ (by omega), a2, W32_in (by omega) (by omega), jst_in (by omega) (by omega), Option.bind_some]
  obtain ⟨y4, Y4⟩ : ∃ y4, y4 = jp y3 1000 (H + 201) (d 0 0 - 1) (d 0 1 - d 3 (d 0 0 - 1) + 1) := ⟨_, rfl⟩
  obtain ⟨f4, p4, -⟩ := jpF Y4
  rw [← Y4, Wz_1]
  have FY : ∀ c b k, ¬ (c = 1000 ∧ H + 197 ≤ b ∧ b ≤ H + 199 ∧ k = d 0 1) → ¬ (c = 1000 ∧ b = H + 201 ∧ k = d 0 0 - 1) → jf y4 c b k = jf u c b k := fun c b k q1 q2 => by
    rw [f4 _ _ _ (by omega), f3 _ _ _ (by omega), f2 _ _ _ (by omega), f1 _ _ _ (by omega)]
  obtain ⟨z1, z2, z3, z4⟩ := zP_at (z := z) (p := d 0 1) (a := a) (n := n) (rr := rr) (x := x)
  have sm4 : jSm u y4 := (((jSm.rfl.wr Y1).wr Y2).wr Y3).wr Y4
  -- the rows but owners
  have base : ∀ w', (∀ c b k, ¬ (c = 1000 ∧ b = H + 203) → jf w' c b k = jf y4 c b k) → (∀ k, 0 ≤ k → k < d 0 1 + 1 → jf w' 1000 (H + 197) k = zP z (d 0 1) a n rr x 0 k ∧ jf w' 1000 (H + 198) k = zP z (d 0 1) a n rr x 1 k ∧ jf w' 1000 (H + 199) k = zP z (d 0 1) a n rr x 2 k) ∧ (∀ p, 0 ≤ p → p < d 0 0 → jf w' 1000 (H + 200) p = d 3 p ∧ jf w' 1000 (H + 201) p = dPc d Si m w0 l0 c0 z0 4 p - d 3 p) := fun w' G => by
    constructor
    · intro k k0 k1
      rw [G _ _ _ (by omega), G _ _ _ (by omega), G _ _ _ (by omega)]
      by_cases ck : k = d 0 1
      · rw [ck, z1, z2, z3, f4 _ _ _ (by omega), f4 _ _ _ (by omega), f4 _ _ _ (by omega)]
        refine ⟨?_, ?_, p3⟩
        · rw [f3 _ _ _ (by omega), f2 _ _ _ (by omega)]; exact p1
        · rw [f3 _ _ _ (by omega)]; exact p2
      · rw [zP_no (by omega), zP_no (by omega), zP_no (by omega), FY _ _ _ (by omega) (by omega), FY _ _ _ (by omega) (by omega), FY _ _ _ (by omega) (by omega)]
        exact h1 k k0 (by omega)
    · intro p p0 p1
      rw [G _ _ _ (by omega), G _ _ _ (by omega), FY _ (H + 200) _ (by omega) (by omega)]
      by_cases cp : p = d 0 0 - 1
      · rw [cp, dPc_4, p4]; exact ⟨a1, by omega⟩
      · rw [dPc_no (f := 4) (by omega) (by omega) (by omega), FY _ _ _ (by omega) (by omega)]; exact h2 p p0 p1
  have D0 : dPc d Si m w0 l0 c0 z0 0 0 = d 0 0 := dPc_no (by omega) (by omega) (by omega)
  have D3 : ∀ p, dPc d Si m w0 l0 c0 z0 3 p = d 3 p := fun p => dPc_no (by omega) (by omega) (by omega)
  by_cases cr : rr = -1
  · rw [if_pos cr]
    obtain ⟨b1, b2⟩ := base y4 fun _ _ _ _ => rfl
    refine ⟨y4, rfl, ⟨fun k k0 k1 => b1 k k0 (by rw [dPc_0] at k1; exact k1), fun p p0 p1 => by rw [D3]; exact b2 p p0 (by rw [D0] at p1; exact p1), fun k k0 k1 => ?_, fun i i0 i1 hi => ?_⟩, sm4, fun c b k q => FY _ _ _ (by omega) (by omega)⟩
    · rw [dPc_0] at k1
      by_cases ck : k = d 0 1
      · rw [ck, z3]; exact .inl cr
      · rw [zP_no (by omega), FY _ _ _ (by omega) (by omega)]; exact h3 k k0 (by omega)
    · rw [FY _ _ _ (by omega) (by omega)]
      refine h4 i i0 i1 fun k k0 k1 => ?_
      have := hi k k0 (by rw [dPc_0]; omega)
      rw [zP_no (by omega)] at this; exact this
  · obtain ⟨r01, rn⟩ : (0 ≤ rr ∧ rr < 1800) ∧ ∀ k, 0 ≤ k → k < d 0 1 → ¬ z 2 k = rr := by
      rcases hr with q | q
      · exact absurd q cr
      · exact q
    rw [if_neg cr, jst_in r01.1 r01.2, Option.bind_some]
    obtain ⟨y5, Y5⟩ : ∃ y5, y5 = jp y4 1000 (H + 203) rr (d 0 1) := ⟨_, rfl⟩
    obtain ⟨f5, p5, -⟩ := jpF Y5
    rw [← Y5]
    obtain ⟨b1, b2⟩ := base y5 fun c b k q => f5 _ _ _ (by omega)
    refine ⟨y5, rfl, ⟨fun k k0 k1 => b1 k k0 (by rw [dPc_0] at k1; exact k1), fun p p0 p1 => by rw [D3]; exact b2 p p0 (by rw [D0] at p1; exact p1), fun k k0 k1 => ?_, fun i i0 i1 hi => ?_⟩, sm4.wr Y5, fun c b k q => by rw [f5 _ _ _ (by omega)]; exact FY _ _ _ (by omega) (by omega)⟩
    · rw [dPc_0] at k1
      by_cases ck : k = d 0 1
      · rw [ck, z3]; exact .inr ⟨r01, p5⟩
      · rw [zP_no (by omega)]
        rcases h3 k k0 (by omega) with q | ⟨q1, q2⟩
        · exact .inl q
        · refine .inr ⟨q1, ?_⟩
          rw [f5 _ _ _ (fun z => rn k k0 (by omega) z.2.2), FY _ _ _ (by omega) (by omega)]; exact q2
    · have hne : ¬ i = rr := fun z => hi (d 0 1) v1.1 (by rw [dPc_0]; omega) (by rw [z3]; exact z.symm)
      rw [f5 _ _ _ (by omega), FY _ _ _ (by omega) (by omega)]
      refine h4 i i0 i1 fun k k0 k1 => ?_
      have := hi k k0 (by rw [dPc_0]; omega)
      rw [zP_no (by omega)] at this; exact this
end jParts
