/-! the linker: its second half: copying, relocating, drawing, keeping, both sides *-/
set_option maxRecDepth 100000
section jLhf
variable {s t u w r0 s0 t0 s' t' s1 t1 : jS} {a b k m n o p q v l x y c f g j A H C S X P Q P' Q' F E y0 : Int} {O : Int → Int → Int → Int → Int} {d e z : Int → Int → Int} {i i' : Int → Int → Int → Int} {G : Int → Int} {N : Int → Int}
abbrev lnA (C : Int) (s : jS) (a : Int) : Prop := lkA C s a ∨ C + 3992 ≤ a ∧ a < C + 4029
/-- linking whole, the image and what is kept too: the component -/
def cNG (C : Int) (s r : jS) (P Q : Int) : Prop := jGw s r P Q (lnA C s) ∧ plKp C s r
def cNF (C : Int) (s r : jS) (P Q : Int) : Prop := cNG C s r P Q ∧ ∀ c a k, lkKp C c a k → jf r c a k = jf s c a k
theorem cNG.trans (h : cNG C s u P Q) (g : cNG C u w P' Q') : cNG C s w (P + P') (Q + Q') := ⟨h.1.trans g.1 fun a ha q => by
  rcases q with q | q
  · exact q
  · unfold lnA lkA at q ⊢
    rw [h.1.K ha] at q; exact q, fun q => g.2 (h.2 q)⟩
theorem cNG.mono (h : cNG C s u P Q) (h1 : P ≤ P') (h2 : Q ≤ Q') : cNG C s u P' Q' := ⟨h.1.mono h1 h2 fun _ _ q => q, h.2⟩
theorem cNF.trans (h : cNF C s u P Q) (g : cNF C u w P' Q') : cNF C s w (P + P') (Q + Q') := ⟨h.1.trans g.1, fun c a k q => (g.2 c a k q).trans (h.2 c a k q)⟩
theorem cNF.mono (h : cNF C s u P Q) (h1 : P ≤ P') (h2 : Q ≤ Q') : cNF C s u P' Q' := ⟨h.1.mono h1 h2, h.2⟩
theorem cLF.nf (h : cLF C s u P Q) : cNF C s u P Q := ⟨⟨h.1.mono (Int.le_refl _) (Int.le_refl _) fun _ _ q => .inl q, h.2.2⟩, h.2.1⟩
theorem jFx.nf (h : jFx s u (C + 3992) 37) : cNF C s u 0 0 := ⟨⟨jGw.sm h.1.1 fun c a k hA => h.F (by unfold lnA at hA; omega) k, fun q => q.cg (by rw [h.1.1.2.2.1]; exact Int.le_refl _) (fun _ _ => by rw [h.K]) fun c a k q' => h.F (by omega) k⟩, fun c a k q => h.F (by omega) k⟩
theorem cKW.ng (h : cKW C s u) : cNG C s u 0 0 := ⟨jGw.sm h.1 fun c a k hA => h.2 c a k fun q => hA (by unfold lnA lkA; omega), fun q => q.cg (by rw [h.1.2.2.1]; exact Int.le_refl _) (fun _ _ => by rw [h.1.1]) fun c a k q' => h.2 c a k (by omega)⟩
/-- the twin -/
def tNF (H : Int) (t q : jS) : Prop := jSm t q ∧ ∀ c a k, ¬ (c = 41 ∧ a = H ∧ (k = 4 ∨ k = 81 ∨ 99 ≤ k ∧ k ≤ 101 ∨ 104 ≤ k ∧ k ≤ 116) ∨ a = H + 4 ∨ a = H + 6) → ¬ (H + 25 ≤ a ∧ a < H + 59 ∨ H + 93 ≤ a ∧ a < H + 130 ∨ H + 170 ≤ a ∧ a ≤ H + 205) → jf q c a k = jf t c a k
theorem tNF.trans (h : tNF H t u) (g : tNF H u w) : tNF H t w := ⟨h.1.trans g.1, fun c a k q1 q2 => (g.2 c a k q1 q2).trans (h.2 c a k q1 q2)⟩
theorem tLF.nf (h : tLF H t u) : tNF H t u := ⟨h.1, fun c a k q1 q2 => h.2 c a k q1 (by omega) (by omega) (by omega)⟩
theorem tDX.nf (h : tDX H t u) : tNF H t u := ⟨h.1, fun c a k q1 q2 => h.2 c a k (by omega)⟩
/-- and what is told at the end -/
def tNG (H : Int) (t q : jS) : Prop := jSm t q ∧ ∀ c a k, ¬ (c = 41 ∧ a = H ∧ (k = 3 ∨ k = 4 ∨ k = 81 ∨ 99 ≤ k ∧ k ≤ 116) ∨ a = H + 3 ∨ a = H + 4 ∨ a = H + 6) → ¬ (H + 25 ≤ a ∧ a < H + 59 ∨ H + 93 ≤ a ∧ a < H + 130 ∨ H + 170 ≤ a ∧ a ≤ H + 208) → jf q c a k = jf t c a k
theorem tNG.trans (h : tNG H t u) (g : tNG H u w) : tNG H t w := ⟨h.1.trans g.1, fun c a k q1 q2 => (g.2 c a k q1 q2).trans (h.2 c a k q1 q2)⟩
theorem tNF.ng (h : tNF H t u) : tNG H t u := ⟨h.1, fun c a k q1 q2 => h.2 c a k (by omega) (by omega)⟩
theorem tNG.jp (h : tNG H t u) (q : c = 41 ∧ a = H ∧ (k = 3 ∨ k = 4 ∨ 99 ≤ k ∧ k ≤ 116) ∨ a = H + 3) : tNG H t (jp u c a k v) := ⟨h.1.jp, fun c' a' k' q1 q2 => by rw [jf_neg (by omega)]; exact h.2 c' a' k' q1 q2⟩
theorem tKW.ng (h : tKW H t u) : tNG H t u := ⟨h.1, fun c a k q1 q2 => h.2 c a k (by omega)⟩
/-- refused -/
def lnF (C H : Int) (s t : jS) (P Q : Int) (r : jS × Bool × Int) (q : jS × Int) : Prop := q.2 = 0 ∧ jf q.1 41 H 4 = 2 ∧ (r.2.1 = true ∧ 0 ≤ r.2.2 ∧ jK r.1 r.2.2 = 2069) ∧ kFt r.1 q.1 C H ∧ cNF C s r.1 P Q ∧ tNF H t q.1 ∧ imI C H r.1 q.1
/-- linked -/
def lnS (C H : Int) (s t : jS) (P Q : Int) (r : jS × Bool × Int) (q : jS × Int) : Prop := r.2 = (false, 0) ∧ jf q.1 41 H 4 = 0 ∧ cNG C s r.1 P Q ∧ tNG H t q.1 ∧ (jf q.1 41 H 99 = jf t 41 H 99 ∧ jf q.1 41 H 100 = jf t 41 H 100 ∧ jf q.1 41 H 101 = jf t 41 H 101) ∧ imI C H r.1 q.1 ∧ kpR C H r.1 q.1 ∧ (jf r.1 39 (C + 4275) 46 = jf q.1 41 H 102 ∧ jf r.1 39 (C + 4275) 47 = jf q.1 41 H 103) ∧ ∃ g n, iB r.1 (C + 3992 + 19) g n ∧ q.2 = n ∧ jf q.1 41 H 3 = n ∧ ∀ k, 0 ≤ k → k < n → jf q.1 1000 (H + 3) k = g k
theorem lnF.pre {r : jS × Bool × Int} {q : jS × Int} (h : lnF C H u w P' Q' r q) (g : cNF C s u P Q) (g' : tNF H t w) : lnF C H s t (P + P') (Q + Q') r q := ⟨h.1, h.2.1, h.2.2.1, h.2.2.2.1, g.trans h.2.2.2.2.1, g'.trans h.2.2.2.2.2.1, h.2.2.2.2.2.2⟩
theorem lnF.mono {r : jS × Bool × Int} {q : jS × Int} (h : lnF C H s t P Q r q) (h1 : P ≤ P') (h2 : Q ≤ Q') : lnF C H s t P' Q' r q := ⟨h.1, h.2.1, h.2.2.1, h.2.2.2.1, h.2.2.2.2.1.mono h1 h2, h.2.2.2.2.2⟩
/-- the twin's end when it is refused -/
theorem t_no2 {r : jS × Bool × Int} (hx : lkX C H s t P Q r w) (h0 : 0 ≤ C ∧ C + 15464 ≤ jn s) (hK : ∀ a, C ≤ a → a < C + 15464 → ¬ (70 ≤ jK s a ∧ jK s a ≤ 77)) (im : imI C H s t) : ∃ q, u_X37_link_100 w H = some q ∧ lnF C H s t P Q r q := by
  obtain ⟨h1, h2, h3, h4⟩ := hx
  refine ⟨(jp w 41 H 4 2, 0), ?_, rfl, jf_pos ⟨rfl, rfl, rfl⟩, h1, ?_, h3.nf, ?_, ?_⟩
  · rw [eu_X37_link_100]; unfold du_X37_link_100
    rw [eu_X37_link_101]; unfold du_X37_link_101
    rw [if_pos rfl, eu_X37_link_112]; unfold du_X37_link_112
    simp only [jls]
    rw [if_pos trivial]
  · unfold kFt at h2 ⊢
    rw [jf_neg (by omega), jf_neg (by omega), jf_neg (by omega)]; exact h2
  · exact ⟨h4.1.jp, fun c a k q1 q2 => by rw [jf_neg (by omega)]; exact h4.2 c a k q1 (by omega) (by omega) (by omega)⟩
  · have := im.lf h0 hK h3.1 h4
    obtain ⟨i1, i2, i3, i4⟩ := this
    exact ⟨i1, i2, i3, i4.kp (fun _ _ _ _ => rfl) (T42 i1).2.2.2.1 (jf_neg (by omega)) fun k => jf_neg (by omega)⟩
/-- from the layout told to the end -/
theorem x_half (hz : LZD C H S O s t e d z G) (hw : wrS C H s t) (hcd : cKdl C s) (hO : outK C s) (im : imI C H s t) (h33 : jf s 39 (C + 4275) 33 = F) (h106 : jf t 41 H 106 = F) (hb : jBd s 1 6) (hg : stY O e g) (h104 : jf t 41 H 104 = y0) (h105 : jf t 41 H 105 = svK d (d 0 1).toNat) : ∃ r q, u_X35_link_58 s (C + 4275) g y0 0 = some r ∧ ((m_X37_relocateAll t H).bind fun q12 => if q12.2 = 0 then u_X37_link_100 q12.1 H else (m_X37_makeImage q12.1 H).bind fun q13 => if q13.2 = 0 then u_X37_link_100 q13.1 H else u_X37_link_101 q13.1 H 1) = some q ∧ (lnF C H s t 1 6 r q ∨ lnS C H s t 0 0 r q) := by
  have hC := hz.2.2.2.2.2.1.1.1
  have hK : ∀ a, C ≤ a → a < C + 15464 → ¬ (70 ≤ jK s a ∧ jK s a ≤ 77) := fun a _ a1 => hw.2.2 a a1
  -- copying
  obtain ⟨u1, e1, W1, z1⟩ := c_zero (s := s) (C := C) (E := g) (y0 := y0)
  have hz1 := hz.zw hK W1.rw.zw tRW.rfl.zw
  have hK1 : ∀ a, C ≤ a → a < C + 15464 → ¬ (70 ≤ jK u1 a ∧ jK u1 a ≤ 77) := fun a a0 a1 => by rw [W1.1.1]; exact hK a a0 a1
  have hO1 := hO.cg W1.1
  obtain ⟨u2, e2, W2, c2⟩ := c_copyAll hz1 hO1 hK1 z1
  obtain ⟨w1, e3, T1, c3⟩ := t_copyAll hz hK
  have W12 := (W1.trans W2).rw
  have T1' : tRW H t w1 := ⟨T1.1, fun c a k q => T1.2 c a k (by omega)⟩
  have hrl : rlS C H S O s t e d z G := ⟨hz, hw, hcd, hO⟩
  have hr2 := hrl.rw W12 T1'
  have out0 : outI C H O u2 w1 d z 0 := out_0 hz.1 (fun l l0 l1 l3 => by
      obtain ⟨q1, q2, q3⟩ := hz.spot l0 l1 l3
      exact ⟨q1, q3⟩) hz.2.2.2.2.1.1.2.2 hz.2.2.2.2.1.2.2 (fun x j x0 x1 hS j0 j1 => (hz.2.2.2.2.1.1.1 x j x0 x1 hS j0 j1).1.2) (fun x j i x0 x1 hS j0 j1 i0 i1 => (hz.2.2.2.2.2.1.1.2.2.1 x x0 x1 hS).2.2.1.2.1 j i j0 j1 i0 i1) c2 c3
  -- relocating
  obtain ⟨r, q, er, eq, hx⟩ := jE2_get (x_relAll (F := F) hr2 out0 (by rw [W12.2 _ _ _ (by omega)]; exact h33) (by rw [T1'.2 _ _ _ (by omega)]; exact h106) (hb.sm W12.1))
  have hK2 : ∀ a, C ≤ a → a < C + 15464 → ¬ (70 ≤ jK u2 a ∧ jK u2 a ≤ 77) := fun a a0 a1 => by rw [W12.1.1]; exact hK a a0 a1
  have im2 : imI C H u2 w1 := im.lf hC hK W12.lf.1 T1'.lf
  have eC : u_X35_link_58 s (C + 4275) g y0 0 = jth r.2.1 (some (r.1, true, r.2.2)) ((m_X35_draw r.1 (C + 4275) g).bind fun q3 => jth q3.2.1 (some (q3.1, true, q3.2.2)) <| jls (jp q3.1 39 (C + 4275) 46 y0) fun s4 => (m_X36_saved s4 (C + 4275 + 1)).bind fun v5 => jls (jp s4 39 (C + 4275) 47 v5) fun s6 => (m_X35_keep s6 (C + 4275)).bind fun q7 => some (q7.1, false, 0)) := by
    rw [e1, eu_X35_link_98]; unfold du_X35_link_98
    rw [e2, Option.bind_some]
    dsimp only
    rw [er, Option.bind_some]
  have eT : m_X37_relocateAll t H = some q := by
    rw [em_X37_relocateAll]; unfold dm_X37_relocateAll
    rw [e3, Option.bind_some]; exact eq
  rw [eC, eT, Option.bind_some]
  rcases hx with ⟨g1, g2, ⟨W3, T3⟩, hr3, o3, f33, f106⟩ | ⟨g1, g2⟩
  rotate_left
  · obtain ⟨qq, e4, hq⟩ := t_no2 g2 (by rw [W12.1.2.2.1]; exact hC) hK2 im2
    rw [g2.1.1, if_pos g1, e4]
    refine ⟨r, qq, ?_, rfl, .inl ((hq.pre W12.lf.nf T1'.lf.nf).mono (by decide) (by decide))⟩
    obtain ⟨r1, r2, r3⟩ := r
    have : r2 = true := g2.1.1
    subst this; rfl
  -- drawing
  have W13 := W12.trans W3
  have T13 := T1'.trans T3
  have hK3 : ∀ a, C ≤ a → a < C + 15464 → ¬ (70 ≤ jK r.1 a ∧ jK r.1 a ≤ 77) := fun a a0 a1 => by rw [W13.1.1]; exact hK a a0 a1
  have im3 : imI C H r.1 q.1 := im.lf hC hK W13.lf.1 T13.lf
  have hd : drS C H S O r.1 q.1 e d z G := ⟨hr3.1, hK3, hr3.2.2.2, o3.all hz.2.2.2.2.1.1.2.2, im3⟩
  obtain ⟨r4, q4, er4, eq4, hx4⟩ := jE2_get (x_draw hd hg (hb.sm W13.1))
  rw [show r.2.1 = false by rw [g1], jth_ff, if_neg (by omega), er4, eq4, Option.bind_some, Option.bind_some]
  rcases hx4 with ⟨p1, p2, D4, E4, ⟨i1, i2, i3⟩, iff4⟩ | ⟨p1, s1, t1, D4, E4, im4, hx⟩
  rotate_left
  · have m4 : jSm r.1 s1 := D4.1.1
    obtain ⟨qq, e5, hq⟩ := t_no2 hx (by rw [m4.2.2.1, W13.1.2.2.1]; exact hC) (fun a a0 a1 => by rw [m4.1]; exact hK3 a a0 a1) im4
    rw [hx.1.1, if_pos p1, e5]
    refine ⟨r4, qq, ?_, rfl, .inl (((hq.pre (D4.nf) E4.nf).pre W13.lf.nf T13.lf.nf).mono (by decide) (by decide))⟩
    obtain ⟨r1, r2, r3⟩ := r4
    have : r2 = true := hx.1.1
    subst this; rfl
  -- told and kept
  rw [show r4.2.1 = false by rw [p1], jth_ff, if_neg (by omega)]
  simp only [jls]
  obtain ⟨s5, E5⟩ : ∃ s5, s5 = jp r4.1 39 (C + 4275) 46 y0 := ⟨_, rfl⟩
  obtain ⟨f5, p5, -⟩ := jpF E5
  have k5 : cKW C r4.1 s5 := by rw [E5]; exact cKW.rfl.jp (by omega)
  have m4 : jSm r.1 r4.1 := D4.1.1
  have hK4 : ∀ a, C ≤ a → a < C + 15464 → ¬ (70 ≤ jK r4.1 a ∧ jK r4.1 a ≤ 77) := fun a a0 a1 => by rw [m4.1]; exact hK3 a a0 a1
  have zD : cZW C r.1 r4.1 := ⟨m4, fun c a k _ q' => D4.F (by omega) k⟩
  have zE : tZW H q.1 q4.1 := ⟨E4.1, fun c a k _ q' => E4.2 c a k (by omega)⟩
  have hz4 : LZD C H S O r4.1 q4.1 e d z G := hr3.1.zw hK3 zD zE
  have hz5 := hz4.zw hK4 k5.zw (tKW.rfl (t := q4.1)).zw
  obtain ⟨s6, E6⟩ : ∃ s6, s6 = jp s5 39 (C + 4275) 47 (svK d (d 0 1).toNat) := ⟨_, rfl⟩
  obtain ⟨f6, p6, -⟩ := jpF E6
  have k6 : cKW C s5 s6 := by rw [E6]; exact cKW.rfl.jp (by omega)
  rw [← E5, c_saved hz5.2.1.1 hz5.1, Option.bind_some, ← E6]
  -- the twin's
  obtain ⟨t5, F5⟩ : ∃ t5, t5 = jp q4.1 41 H 4 0 := ⟨_, rfl⟩
  obtain ⟨g5, o5, -⟩ := jpF F5
  obtain ⟨t6, F6⟩ : ∃ t6, t6 = jp t5 41 H 102 y0 := ⟨_, rfl⟩
  obtain ⟨g6, o6, -⟩ := jpF F6
  obtain ⟨t7, F7⟩ : ∃ t7, t7 = jp t6 41 H 103 (svK d (d 0 1).toNat) := ⟨_, rfl⟩
  obtain ⟨g7, o7, -⟩ := jpF F7
  have zt : tZW H q4.1 t7 := ⟨by rw [F7, F6, F5]; exact ((jSm.rfl.jp).jp).jp, fun c a k q1 q2 => by rw [g7 _ _ _ (by omega), g6 _ _ _ (by omega), g5 _ _ _ (by omega)]⟩
  have r104 : jf q4.1 41 H 104 = y0 := by rw [E4.2 _ _ _ (by omega), T13.2 _ _ _ (by omega)]; exact h104
  have r105 : jf q4.1 41 H 105 = svK d (d 0 1).toNat := by rw [E4.2 _ _ _ (by omega), T13.2 _ _ _ (by omega)]; exact h105
  obtain ⟨u8, w8, e8, e9, k8, l8, kp, k45⟩ := x_keep (hz4.zw hK4 (k5.trans k6).zw zt) (fun a a0 a1 => by rw [(k5.trans k6).1.1]; exact hK4 a a0 a1)
  rw [e8, Option.bind_some]
  have K8 : cKW C r4.1 u8 := (k5.trans k6).trans k8
  obtain ⟨gg, n, ib, ⟨c1', c2', c3', c4', c5'⟩⟩ := id iff4
  have r46 : jf w8 46 (H + 118) 9 = n := by rw [l8.2 _ _ _ (by omega), g7 _ _ _ (by omega), g6 _ _ _ (by omega), g5 _ _ _ (by omega)]; exact c5'
  obtain ⟨t9, F9⟩ : ∃ t9, t9 = jp w8 41 H 3 n := ⟨_, rfl⟩
  obtain ⟨g9, o9, -⟩ := jpF F9
  have rF : ∀ k, 0 ≤ k → k < n → jf t9 1000 (H + 118 + 9) k = gg k := fun k k0 k1 => by
    rw [g9 _ _ _ (by omega), l8.2 _ _ _ (by omega), g7 _ _ _ (by omega), g6 _ _ _ (by omega), g5 _ _ _ (by omega)]; exact c1' k k0 k1
  obtain ⟨wE, eE, h1, h2, h3⟩ := loopTo (C := jc2 b_X37_link_155) (fun i w => jSm t9 w ∧ (∀ c a k, ¬ (c = 1000 ∧ a = H + 3) → jf w c a k = jf t9 c a k) ∧ ∀ k, 0 ≤ k → k < i → jf w 1000 (H + 3) k = gg k) (fun i => [H, i]) 0 n c3' (s := t9) (F := fun w => some (w, n)) ⟨jSm.rfl, fun _ _ _ _ => rfl, fun k k0 k1 => by omega⟩ (fun i w i0 i1 ⟨j1, j2, j3⟩ => by
    have r3 : jf w 41 H 3 = n := by rw [j2 _ _ _ (by omega)]; exact o9
    refine ⟨jp w 1000 (H + 3) i (gg i), ?_, j1.jp, fun c a k q => by rw [jf_neg (by omega)]; exact j2 c a k q, fun k k0 k1 => ?_⟩
    · show b_X37_link_155 w H i = _
      unfold b_X37_link_155
      rw [r3, if_pos i1, jlt_in i0 (by omega), Option.bind_some, j2 _ _ _ (by omega), rF i i0 i1, jst_in i0 (by omega), Option.bind_some, W32_in (by omega) (by omega)]
    · by_cases c : k = i
      · rw [c, jf_pos ⟨rfl, rfl, rfl⟩]
      · rw [jf_neg (by omega)]; exact j3 k k0 (by omega)) (fun w ⟨j1, j2, _⟩ => by
    have r3 : jf w 41 H 3 = n := by rw [j2 _ _ _ (by omega)]; exact o9
    show b_X37_link_155 w H n = _
    unfold b_X37_link_155
    rw [r3, if_neg (Int.lt_irrefl _), eu_X37_link_187]; unfold du_X37_link_187
    rw [r3])
  have eL : u_X37_link_101 q4.1 H 1 = some (wE, n) := by
    rw [eu_X37_link_101]; unfold du_X37_link_101
    rw [if_neg n10, eu_X37_link_112]; unfold du_X37_link_112
    simp only [jls]
    rw [if_neg n10, ← F5, g5 _ _ _ (by omega), r104, ← F6, g6 _ _ _ (by omega), g5 _ _ _ (by omega), r105, ← F7, e9, Option.bind_some]
    dsimp only
    rw [r46, ← F9, eu_X37_link_155]; unfold du_X37_link_155
    exact eE
  rw [eL]
  have jw8 : ∀ c a k, ¬ (c = 1000 ∧ a = H + 3) → ¬ (c = 41 ∧ a = H ∧ k = 3) → ¬ tkK H c a k → ¬ (c = 41 ∧ a = H ∧ (k = 4 ∨ k = 102 ∨ k = 103)) → jf wE c a k = jf q4.1 c a k := fun c a k q1 q2 q3 q4 => by
    rw [h2 _ _ _ q1, g9 _ _ _ (by omega), l8.2 _ _ _ q3, g7 _ _ _ (by omega), g6 _ _ _ (by omega), g5 _ _ _ (by omega)]
  have jq : ∀ k, ¬ (k = 3 ∨ k = 4 ∨ k = 102 ∨ k = 103 ∨ k = 109) → ¬ (113 ≤ k ∧ k ≤ 116) → jf wE 41 H k = jf t 41 H k := fun k q1 q2 => by
    rw [jw8 _ _ _ (by omega) (by omega) (by omega) (by omega), E4.2 _ _ _ (by omega), T13.2 _ _ _ (by omega)]
  have TN : tNG H q4.1 wE := by
    refine ⟨((zt.1.trans l8.1).trans (by rw [F9]; exact jSm.rfl.jp)).trans h1, fun c a k q1 q2 => jw8 c a k (by omega) (by omega) (by omega) (by omega)⟩
  refine ⟨(u8, false, 0), (wE, n), rfl, rfl, .inr ⟨rfl, ?_, ?_, (((T13.lf.nf).trans E4.nf).ng).trans TN, ⟨jq 99 (by decide) (by decide), jq 100 (by decide) (by decide), jq 101 (by decide) (by decide)⟩, ?_, ?_, ⟨?_, ?_⟩, gg, n, ?_, rfl, ?_, fun k k0 k1 => h3 k k0 k1⟩⟩
  · show jf wE 41 H 4 = 0
    rw [h2 _ _ _ (by omega), g9 _ _ _ (by omega), l8.2 _ _ _ (by omega), g7 _ _ _ (by omega), g6 _ _ _ (by omega)]; exact o5
  · exact (((W13.lf.nf.1).trans D4.nf.1).trans K8.ng).mono (by decide) (by decide)
  · have gw : jGw r4.1 u8 0 0 (fun a => C + 4275 ≤ a ∧ a < C + 4316) := jGw.sm K8.1 fun c a k hA => K8.2 c a k (by omega)
    have hn4 : jn r4.1 = jn s := by rw [m4.2.2.1, W13.1.2.2.1]
    have T : jTt u8 42 (C + 3992) := Lo_42 r4.1 u8 _ i1 gw.1.1 fun x x0 x1 => ⟨gw.K (by omega), gw.N (by omega), fun k => gw.F (by omega) (by omega) k⟩
    obtain ⟨-, -, -, T3, -⟩ := T42 T
    obtain ⟨⟨b1, b2, b3, b4⟩, b5, -⟩ := ib
    refine ⟨T, fun x x0 x1 => ?_, fun x x0 x1 => ?_, gg, n, ⟨⟨by rw [K8.2 _ _ _ (by omega)]; exact b1, b2, b3, fun k k0 k1 => by rw [K8.2 _ _ _ (by omega)]; exact b4 k k0 k1⟩, b5, T3⟩, ?_, fun k k0 k1 => h3 k k0 k1⟩
    · rw [K8.2 _ _ _ (by omega)]; exact i2 x x0 x1
    · rw [K8.2 _ _ _ (by omega)]; exact i3 x x0 x1
    · show jf wE 41 H 3 = n
      rw [h2 _ _ _ (by omega)]; exact o9
  · obtain ⟨N, n1, n2, n3, n4, n5⟩ := kp
    refine ⟨N, n1, ?_, n3, n4, fun g' g0 g1 => ?_⟩
    · show jf wE 41 H 109 = N
      rw [h2 _ _ _ (by omega), g9 _ _ _ (by omega)]; exact n2
    · have e : ∀ a k, H + 206 ≤ a → jf wE 1000 a k = jf w8 1000 a k := fun a k a0 => by rw [h2 _ _ _ (by omega), g9 _ _ _ (by omega)]
      rw [e _ _ (by omega), e (H + 208) _ (by omega)]
      obtain ⟨z1, z2, z3⟩ := n5 g' g0 g1
      refine ⟨z1, fun i i0 i1 => ?_, z3⟩
      rw [e _ _ (by omega)]; exact z2 i i0 i1
  · show jf u8 39 (C + 4275) 46 = jf wE 41 H 102
    rw [k45 46 (by decide), f6 _ _ _ (by omega), p5, h2 _ _ _ (by omega), g9 _ _ _ (by omega), l8.2 _ _ _ (by omega), g7 _ _ _ (by omega), o6]
  · show jf u8 39 (C + 4275) 47 = jf wE 41 H 103
    rw [k45 47 (by decide), p6, h2 _ _ _ (by omega), g9 _ _ _ (by omega), l8.2 _ _ _ (by omega), o7]
  · obtain ⟨⟨b1, b2, b3, b4⟩, b5, b6⟩ := ib
    have gw : jGw r4.1 u8 0 0 (fun a => C + 4275 ≤ a ∧ a < C + 4316) := jGw.sm K8.1 fun c a k hA => K8.2 c a k (by omega)
    have hn4 : jn r4.1 = jn s := by rw [m4.2.2.1, W13.1.2.2.1]
    exact ⟨⟨by rw [K8.2 _ _ _ (by omega)]; exact b1, b2, b3, fun k k0 k1 => by rw [K8.2 _ _ _ (by omega)]; exact b4 k k0 k1⟩, b5, Lo_45 r4.1 u8 _ b6 gw.1.1 fun x x0 x1 => ⟨gw.K (by omega), gw.N (by omega), fun k => gw.F (by omega) (by omega) k⟩⟩
  · show jf wE 41 H 3 = n
    rw [h2 _ _ _ (by omega)]; exact o9
end jLhf
