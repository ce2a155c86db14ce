/-! the component reads a file of an image: all of it; an image is copied -/
section jIread6
variable {s t u w : jS} {B N R n p f a b b' x y e k z v v' d lo hi m S X : Int} {g g' : Int → Int} {i j : Int → Int → Int → Int} {L M : List (Prop × Int × Int)} {c : Prop} {F : Int → Int} {P : jS → Prop}
theorem ny_c {R' : Type} {Q2 : R' → Prop} {Q' : Int → Int → R' → Prop} {Y : Option (jS × Bool × Int)} {F K : jS × Bool × Int → Option R'} (h : jE Y (ckR (cOK P) (iBD s R) L)) (fin : ∀ q f p, iBD s R f p q → jE (F q) (Q' f p)) (ok : Gd L → ∀ t v, P t → jE (K (t, false, v)) (ckR Q2 Q' M)) : jE (Y.bind fun q => jth q.2.1 (F q) (K q)) (ckR Q2 Q' (L ++ M)) := by
  obtain ⟨q, eq, hq⟩ := h
  rw [eq, Option.bind_some]
  rcases hq with ⟨hg, q1, q2⟩ | ⟨f, p, hf, hb⟩
  · have := jk_app hg (ok hg q.1 q.2.2 q2)
    obtain ⟨q1', q2', q3'⟩ := q
    have e : q2' = false := q1
    subst e
    exact this
  · rw [show q.2.1 = true from hb.1]
    exact jk_bad hf (fin q f p hb)
def iRD (s : jS) (R : Int) (f p : Int) (r : jS × Int) : Prop := r.2 = f ∧ ∃ u, jFx s u R 12 ∧ jf u 32 R 9 = p ∧ r.1 = jmk u 2054 0 (fun _ => 0) 6 ∧ cIz u (R + 1)
def iRO (s : jS) (R : Int) (g : Int → Int) (r : jS × Int) : Prop := r.2 = 0 ∧ jFx s r.1 R 12 ∧ jf r.1 32 R 9 = -1 ∧ cIm r.1 (R + 1) (iR g) ∧ vIm (iR g)
theorem iBD.rk {q : jS × Bool × Int} (h : iBD s R f p q) : jK q.1 q.2.2 ∈ ([2054] : List Int) ∧ iRD s R f p (q.1, jf q.1 32 R 8) := by
  obtain ⟨-, u, h1, h2, h3, h4, h5, h6⟩ := h
  have e : jK q.1 q.2.2 = 2054 := by
    rw [h4, h5]
    show (if jn u = jn u then (2054 : Int) else jK u (jn u)) = _
    rw [if_pos rfl]
  refine ⟨by rw [e]; decide, ?_, u, h1, h3, h4, h6⟩
  show jf q.1 32 R 8 = f
  rw [h4]
  show (if (32 : Int) = 2054 ∧ R = jn u then (0 : Int) else jf u 32 R 8) = f
  rw [if_neg (by omega)]; exact h2
theorem iBD.rd {q : jS × Bool × Int} (h : iBD s R f p q) : jE (if jK q.1 q.2.2 ∈ ([2054] : List Int) then u_X28_read_74 q.1 R q.2.2 else none) (iRD s R f p) := by
  rw [if_pos h.rk.1, eu_X28_read_74]; unfold du_X28_read_74
  exact jS_end h.rk.2
theorem iBD.rdR {q : jS × Bool × Int} (h : iBD s R f p q) : jE (if jK q.1 q.2.2 ∈ ([2054] : List Int) then (jinr (u_X28_read_74 q.1 R q.2.2) : Option ((jS × List Int) ⊕ (jS × Int))) else none) fun x => ∃ r, x = .inr r ∧ iRD s R f p r := by
  rw [if_pos h.rk.1, eu_X28_read_74]; unfold du_X28_read_74
  exact jS_inr (jS_end ⟨_, rfl, h.rk.2⟩)
theorem T45 (h : jTt s 45 y) : 0 ≤ y ∧ jK s y = 29 ∧ jf s 29 y 0 = y + 1 ∧ 0 ≤ y + 1 ∧ jK s (y + 1) = 1001 := by
  have k := h.zz.2.2.1
  have f := h.fld (k := 0) (o := 1) (t' := 2113537) (by decide)
  exact ⟨h.zz.1, k, by rw [← jF_k (show jK s y = 29 from k)]; exact f.1, f.2.zz.1, f.2.zz.2.2.1⟩
theorem i_rread (C : iC s R B g n) (hz : cIz s (R + 1)) : jE (m_X28_read s R B) (ckR (iRO s R g) (iRD s R) (JAll g n)) := by
  have hn := C.1.2.1
  have hb := C.1.by
  have hdis := C.2.1
  obtain ⟨b0, b1, -⟩ := T45 C.1.2.2
  rw [em_X28_read]; unfold dm_X28_read
  simp only [jls]
  rw [jrd_in b0 (show jK (jp s 32 R 3 B) B = 29 from b1), Option.bind_some, jf_neg (by omega), C.1.1.1]
  have k3 : jFx s (jp (jp (jp s 32 R 3 B) 32 R 4 n) 32 R 7 (-1)) R 12 := ((jFx.rfl.jp rfl (by omega) (by omega)).jp rfl (by omega) (by omega)).jp rfl (by omega) (by omega)
  have R0 : iS s (jp (jp (jp s 32 R 3 B) 32 R 4 n) 32 R 7 (-1)) R B n := ⟨k3, by (repeat (first | rw [jf_neg (by omega)] | rw [jf_pos (by omega)] | rw [ou_neg (by omega)] | rw [ou_pos (by omega)])), by (repeat (first | rw [jf_neg (by omega)] | rw [jf_pos (by omega)] | rw [ou_neg (by omega)] | rw [ou_pos (by omega)]))⟩
  have e7 : jf (jp (jp (jp s 32 R 3 B) 32 R 4 n) 32 R 7 (-1)) 32 R 7 = -1 := by (repeat (first | rw [jf_neg (by omega)] | rw [jf_pos (by omega)] | rw [ou_neg (by omega)] | rw [ou_pos (by omega)]))
  have hz0 : cIz (jp (jp (jp s 32 R 3 B) 32 R 4 n) 32 R 7 (-1)) (R + 1) := fun x x0 x1 => by (repeat (first | rw [jf_neg (by omega)] | rw [jf_pos (by omega)] | rw [ou_neg (by omega)] | rw [ou_pos (by omega)])); exact hz x x0 x1
  generalize jp (jp (jp s 32 R 3 B) 32 R 4 n) 32 R 7 (-1) = s0 at R0 e7 hz0 ⊢
  clear k3
  rw [eu_X28_read_20]; unfold du_X28_read_20
  refine jS_for (fun x t => iS s t R B n ∧ jf t 32 R 7 = -1 ∧ cIz t (R + 1) ∧ ∀ y, 0 ≤ y → y < x → jf t 1000 (R + 11) y = -1) (fun x => [R, x]) 0 3 (by omega) ⟨R0, e7, hz0, fun y y0 y1 => by omega⟩ (fun x t x0 x1 ⟨g1, g2, g3, g4⟩ => ?_) (fun t ⟨g1, g2, g3, g4⟩ => ?_)
  · show jE (b_X28_read_20 t R x) _
    unfold b_X28_read_20
    rw [if_pos x1, jst_in x0 x1, Option.bind_some, W32_in (by omega) (by omega)]
    refine jS_end ⟨rfl, ⟨g1.1.jp rfl (by omega) (by omega), by (repeat (first | rw [jf_neg (by omega)] | rw [jf_pos (by omega)] | rw [ou_neg (by omega)] | rw [ou_pos (by omega)])); exact g1.2.1, by (repeat (first | rw [jf_neg (by omega)] | rw [jf_pos (by omega)] | rw [ou_neg (by omega)] | rw [ou_pos (by omega)])); exact g1.2.2⟩, by (repeat (first | rw [jf_neg (by omega)] | rw [jf_pos (by omega)] | rw [ou_neg (by omega)] | rw [ou_pos (by omega)])); exact g2, fun y y0 y1 => by (repeat (first | rw [jf_neg (by omega)] | rw [jf_pos (by omega)] | rw [ou_neg (by omega)] | rw [ou_pos (by omega)])); exact g3 y y0 y1, fun y y0 y1 => ?_⟩
    by_cases cy : y = x
    · exact jf_pos ⟨rfl, rfl, cy⟩
    · (repeat (first | rw [jf_neg (by omega)] | rw [jf_pos (by omega)] | rw [ou_neg (by omega)] | rw [ou_pos (by omega)])); exact g4 y y0 (by omega)
  show jE (b_X28_read_20 t R 3) _
  unfold b_X28_read_20
  rw [if_neg (by omega), eu_X28_read_38]; unfold du_X28_read_38
  refine jS_inr ?_
  show jE _ (ckR (iRO s R g) (iRD s R) (JAll g n))
  unfold JAll
  have W0 : iW t R g 0 := ⟨fun x x0 x1 => g4 x x0 x1, g2⟩
  refine ny_c (i_head C g1 W0 g3) (fun q f p hq => hq.rd) fun G1 t1 v1 ⟨H1, W1, Z1⟩ => ?_
  dsimp only
  have hd := JHead_ok G1
  have d4 := hd.2.2.2.1
  unfold JRows
  rw [List.append_nil, eu_X28_read_44]; unfold du_X28_read_44
  refine jk_for (JRow g n) (fun e t => iH s t R B g n ∧ iW t R g e ∧ cIz t (R + 1)) (fun e => [R, e]) 0 (JE g) (by omega) ⟨H1, W1, Z1⟩ (fun e t e0 e1 hG ⟨H, W, Z⟩ => ?_) fun t ⟨H, W, Z⟩ hG => ?_
  · show jE (b_X28_read_44 t R e) _
    unfold b_X28_read_44
    have h8 := hd.2.2.2.2.1
    rw [H.2.2, if_pos e1]
    rw [← List.append_nil (JRow g n e)]
    refine ny_c (i_row C H W Z hd e0 e1 hG) (fun q f p hq => hq.rdR) fun _ t v hp => jk_end ?_
    dsimp only
    rw [W32_in (by omega) (by omega)]
    exact jS_end ⟨t, rfl, hp⟩
  · show jE (b_X28_read_44 t R (JE g)) _
    unfold b_X28_read_44
    rw [H.2.2, if_neg (by omega), eu_X28_read_63]; unfold du_X28_read_63
    refine jS_inr (jE_mono (?_ : jE _ (ckR (iRO s R g) (iRD s R) _)) fun r hr => ⟨r, rfl, hr⟩)
    have hr : Jr g n := Jr_of (by unfold JRows; rw [List.append_nil]; exact ckF_gd.mpr hG)
    refine ny_c (i_rseg C H W Z hd hr) (fun q f p hq => hq.rd) fun G3 t3 v3 ⟨H3, W3, I3⟩ => ?_
    dsimp only
    have hT0 : ¬ jw' g 0 = -1 ∧ 0 < nT g ∧ nT g % 2 = 0 := by rw [JSegs_eq] at G3; exact (Gd_cons.mp G3).1
    rw [← List.append_nil (JNote g)]
    refine ny_c (i_rmarks C ⟨H3, W3, I3⟩ hd hr hT0) (fun q f p hq => hq.rd) fun G4 t4 v4 ⟨H4, I4⟩ => jk_end ?_
    dsimp only
    have k9 : jFx t4 (jp t4 32 R 9 (-1)) R 1 := jFx.rfl.jp rfl (by omega) (by omega)
    have z5 : nT g ≤ 2 * nT g := by omega
    exact jS_end ⟨rfl, H4.1.1.trans (k9.wide (by omega) (by omega)), by (repeat (first | rw [jf_neg (by omega)] | rw [jf_pos (by omega)] | rw [ou_neg (by omega)] | rw [ou_pos (by omega)])), I4.kf k9 (by omega), by rw [← iM_full z5]; exact iM_v hd hr hb hn⟩
/-- a segment is copied -/
theorem i_sset (T : jTt u 44 v') (h : cSg u v' i x) (hz : 0 ≤ jf u 28 v' 4 ∧ jf u 28 v' 4 ≤ 4096) (h01 : i 1 x 0 = 0 ∨ i 1 x 0 = 1) (hb : ¬ i 1 x 0 = 0 → ∀ k, 0 ≤ k → k < i 1 x 2 → 0 ≤ i 0 x k ∧ i 0 x k < 256) (d : v + 2 ≤ v' ∨ v' + 2 ≤ v) : jE (m_X24_set u v v') fun q => jFx u q.1 v 2 ∧ cSg q.1 v i x ∧ 0 ≤ jf q.1 28 v 4 ∧ jf q.1 28 v 4 ≤ 4096 := by
  obtain ⟨⟨t1, t2⟩, t3, t4, t5, t6⟩ := T44 T
  obtain ⟨h1, h2⟩ := h
  rw [em_X24_set]; unfold dm_X24_set
  rw [jrd_in t1 t2, Option.bind_some, h1, jzb_in h01, Option.bind_some]
  simp only [jls]
  rw [jrd_in t1 (show jK (jp u 28 v 2 (i 1 x 0)) v' = 28 from t2), Option.bind_some, jf_neg (by omega), jrd_in t1 (show jK (jp (jp u 28 v 2 (i 1 x 0)) 28 v 3 (jf u 28 v' 3)) v' = 28 from t2), Option.bind_some, jf_neg (by omega), jf_neg (by omega), jrd_in t1 (show jK (jp (jp (jp u 28 v 2 (i 1 x 0)) 28 v 3 (jf u 28 v' 3)) 28 v 4 (jf u 28 v' 4)) v' = 28 from t2), Option.bind_some, jf_neg (by omega), jf_neg (by omega), jf_neg (by omega)]
  have k : jFx u (jp (jp (jp (jp u 28 v 2 (i 1 x 0)) 28 v 3 (jf u 28 v' 3)) 28 v 4 (jf u 28 v' 4)) 28 v 5 (jf u 28 v' 5)) v 2 := (((jFx.rfl.jp rfl (by omega) (by omega)).jp rfl (by omega) (by omega)).jp rfl (by omega) (by omega)).jp rfl (by omega) (by omega)
  have f2 : jf (jp (jp (jp (jp u 28 v 2 (i 1 x 0)) 28 v 3 (jf u 28 v' 3)) 28 v 4 (jf u 28 v' 4)) 28 v 5 (jf u 28 v' 5)) 28 v 2 = i 1 x 0 := by (repeat (first | rw [jf_neg (by omega)] | rw [jf_pos (by omega)] | rw [ou_neg (by omega)] | rw [ou_pos (by omega)]))
  have f3 : jf (jp (jp (jp (jp u 28 v 2 (i 1 x 0)) 28 v 3 (jf u 28 v' 3)) 28 v 4 (jf u 28 v' 4)) 28 v 5 (jf u 28 v' 5)) 28 v 3 = jf u 28 v' 3 := by (repeat (first | rw [jf_neg (by omega)] | rw [jf_pos (by omega)] | rw [ou_neg (by omega)] | rw [ou_pos (by omega)]))
  have f4 : jf (jp (jp (jp (jp u 28 v 2 (i 1 x 0)) 28 v 3 (jf u 28 v' 3)) 28 v 4 (jf u 28 v' 4)) 28 v 5 (jf u 28 v' 5)) 28 v 4 = jf u 28 v' 4 := by (repeat (first | rw [jf_neg (by omega)] | rw [jf_pos (by omega)] | rw [ou_neg (by omega)] | rw [ou_pos (by omega)]))
  have f5 : jf (jp (jp (jp (jp u 28 v 2 (i 1 x 0)) 28 v 3 (jf u 28 v' 3)) 28 v 4 (jf u 28 v' 4)) 28 v 5 (jf u 28 v' 5)) 28 v 5 = jf u 28 v' 5 := by (repeat (first | rw [jf_neg (by omega)] | rw [jf_pos (by omega)] | rw [ou_neg (by omega)] | rw [ou_pos (by omega)]))
  generalize jp (jp (jp (jp u 28 v 2 (i 1 x 0)) 28 v 3 (jf u 28 v' 3)) 28 v 4 (jf u 28 v' 4)) 28 v 5 (jf u 28 v' 5) = u1 at k f2 f3 f4 f5 ⊢
  rw [eu_X24_set_34]; unfold du_X24_set_34
  refine jS_for (fun m t => jFx u t v 2 ∧ jf t 28 v 2 = i 1 x 0 ∧ jf t 28 v 3 = jf u 28 v' 3 ∧ jf t 28 v 4 = jf u 28 v' 4 ∧ jf t 28 v 5 = jf u 28 v' 5 ∧ ∀ k, 0 ≤ k → k < m → jf t 1001 (v + 1) k = W8 (jf u 1001 (v' + 1) k)) (fun m => [v, v', m]) 0 (jf u 28 v' 4) (by omega) ⟨k, f2, f3, f4, f5, fun k k0 k1 => by omega⟩ (fun m t m0 m1 ⟨k, f2, f3, f4, f5, f6⟩ => ?_) (fun t ⟨k, f2, f3, f4, f5, f6⟩ => ?_)
  · show jE (b_X24_set_34 t v v' m) _
    unfold b_X24_set_34
    obtain ⟨⟨s1, s2⟩, s3, s4, s5, s6⟩ := T44 (T.ext k.2)
    have hl : jld t 1001 (v' + 1) m = some (jf t 1001 (v' + 1) m) := by
      unfold jld; exact if_pos ⟨s4, s5, m0, by rw [s6]; omega⟩
    rw [f4, if_pos m1, jrd_in s1 s2, Option.bind_some, s3, hl, Option.bind_some, jst_in m0 (by omega), Option.bind_some, k.F (by omega), W32_in (by omega) (by omega)]
    refine jS_end ⟨rfl, k.jp rfl (by omega) (by omega), by (repeat (first | rw [jf_neg (by omega)] | rw [jf_pos (by omega)] | rw [ou_neg (by omega)] | rw [ou_pos (by omega)])); exact f2, by (repeat (first | rw [jf_neg (by omega)] | rw [jf_pos (by omega)] | rw [ou_neg (by omega)] | rw [ou_pos (by omega)])); exact f3, by (repeat (first | rw [jf_neg (by omega)] | rw [jf_pos (by omega)] | rw [ou_neg (by omega)] | rw [ou_pos (by omega)])); exact f4, by (repeat (first | rw [jf_neg (by omega)] | rw [jf_pos (by omega)] | rw [ou_neg (by omega)] | rw [ou_pos (by omega)])); exact f5, fun j j0 j1 => ?_⟩
    by_cases c : j = m
    · rw [jf_pos ⟨rfl, rfl, c⟩, c]
    · (repeat (first | rw [jf_neg (by omega)] | rw [jf_pos (by omega)] | rw [ou_neg (by omega)] | rw [ou_pos (by omega)])); exact f6 j j0 (by omega)
  · show jE (b_X24_set_34 t v v' (jf u 28 v' 4)) _
    unfold b_X24_set_34
    rw [f4, if_neg (by omega)]
    refine jS_inr (jS_end ⟨k, ⟨f2, fun c => ?_⟩, by rw [f4]; exact hz⟩)
    obtain ⟨a1, a2, a3, a4⟩ := h2 c
    refine ⟨f3.trans a1, f4.trans a2, f5.trans a3, fun k k0 k1 => ?_⟩
    rw [f6 k k0 (by omega), a4 k k0 k1, W8_sb, sb_mod (hb c k k0 k1).1 (hb c k k0 k1).2]
theorem T44k (h : jTt s 44 v) : jK s v < 3000 ∧ jK s (v + 1) < 3000 := by
  have := T44 h
  rw [this.1.2, this.2.2.2.1]; omega
/-- an image is copied -/
theorem i_set (T : jTt u 43 b') (h : cIm u b' i) (vi : vIm i) (d : b + 9 ≤ b' ∨ b' + 9 ≤ b) : jE (m_X23_set u b b') fun q => jFx u q.1 b 9 ∧ cIm q.1 b i := by
  obtain ⟨⟨t1, t2⟩, ⟨t3, t4, t5, t6, t7⟩, t8, t9, t10, t11⟩ := T43 T
  obtain ⟨h1, h2, h3, h4, h5⟩ := id h
  rw [em_X23_set]; unfold dm_X23_set
  rw [jrd_in t1 t2, Option.bind_some, h2]
  simp only [jls]
  rw [jrd_in t1 (show jK (jp u 27 b 2 (i 2 0 0)) b' = 27 from t2), Option.bind_some, jf_neg (by omega), h3]
  have k : jFx u (jp (jp u 27 b 2 (i 2 0 0)) 27 b 3 (i 2 1 0)) b 9 := (jFx.rfl.jp rfl (by omega) (by omega)).jp rfl (by omega) (by omega)
  have f2 : jf (jp (jp u 27 b 2 (i 2 0 0)) 27 b 3 (i 2 1 0)) 27 b 2 = i 2 0 0 := by (repeat (first | rw [jf_neg (by omega)] | rw [jf_pos (by omega)] | rw [ou_neg (by omega)] | rw [ou_pos (by omega)]))
  have f3 : jf (jp (jp u 27 b 2 (i 2 0 0)) 27 b 3 (i 2 1 0)) 27 b 3 = i 2 1 0 := by (repeat (first | rw [jf_neg (by omega)] | rw [jf_pos (by omega)] | rw [ou_neg (by omega)] | rw [ou_pos (by omega)]))
  generalize jp (jp u 27 b 2 (i 2 0 0)) 27 b 3 (i 2 1 0) = u1 at k f2 f3 ⊢
  rw [eu_X23_set_18]; unfold du_X23_set_18
  refine jS_for (fun x t => jFx u t b 9 ∧ jf t 27 b 2 = i 2 0 0 ∧ jf t 27 b 3 = i 2 1 0 ∧ ∀ y, 0 ≤ y → y < x → cSg t (vsg b y) i y ∧ 0 ≤ jf t 28 (vsg b y) 4 ∧ jf t 28 (vsg b y) 4 ≤ 4096) (fun x => [b, b', x]) 0 3 (by omega) ⟨k, f2, f3, fun y y0 y1 => by omega⟩ (fun x t x0 x1 ⟨k, f2, f3, f4⟩ => ?_) (fun t ⟨k, f2, f3, f4⟩ => ?_)
  · show jE (b_X23_set_18 t b b' x) _
    unfold b_X23_set_18
    have T' := T.ext k.2
    obtain ⟨⟨t1, t2⟩, ⟨t3, t4, t5, t6, t7⟩, t8, t9, t10, t11⟩ := T43 T'
    have I := h.kf k (by omega)
    have hl : jld t 1009 (b' + 1) x = some (jf t 1009 (b' + 1) x) := by
      unfold jld; exact if_pos ⟨t4, t5, x0, by rw [t6]; exact x1⟩
    have vx := vi.1 x x0 x1
    rw [if_pos x1, jix_in x0 x1, Option.bind_some, jrd_in t1 t2, Option.bind_some, t3, hl, Option.bind_some, (t7 x x0 x1).1]
    refine jS_call (i_sset (v := vsg b x) (t7 x x0 x1).2 (I.1 x x0 x1) (I.2.2.2.2 x x0 x1) vx.1 (fun c => (vx.2 c).2.2.2.2.2.2) (by unfold vsg; omega)) fun q ⟨s1, s2, s3, s4⟩ => ?_
    rw [W32_in (by omega) (by omega)]
    have vy : ∀ y, 0 ≤ y → y < 3 → ¬ y = x → vsg b y + 2 ≤ vsg b x ∨ vsg b x + 2 ≤ vsg b y := fun y y0 y1 hy => by unfold vsg; omega
    refine jS_end ⟨rfl, k.trans (s1.wide (by unfold vsg; omega) (by unfold vsg; omega)), by rw [s1.F (by unfold vsg; omega)]; exact f2, by rw [s1.F (by unfold vsg; omega)]; exact f3, fun y y0 y1 => ?_⟩
    by_cases cy : y = x
    · subst cy; exact ⟨s2, s3, s4⟩
    · have := vy y y0 (by omega) cy
      obtain ⟨g1, g2, g3⟩ := f4 y y0 (by omega)
      exact ⟨g1.keep fun c a k a0 a1 => s1.F (by omega) k, by rw [s1.F (by omega)]; exact ⟨g2, g3⟩⟩
  · show jE (b_X23_set_18 t b b' 3) _
    unfold b_X23_set_18
    rw [if_neg (by omega), eu_X23_set_44]; unfold du_X23_set_44
    rw [eu_X23_set_46]; unfold du_X23_set_46
    refine jS_inr ?_
    refine jS_for (fun x t => jFx u t b 9 ∧ jf t 27 b 2 = i 2 0 0 ∧ jf t 27 b 3 = i 2 1 0 ∧ (∀ y, 0 ≤ y → y < 3 → cSg t (vsg b y) i y ∧ 0 ≤ jf t 28 (vsg b y) 4 ∧ jf t 28 (vsg b y) 4 ≤ 4096) ∧ ∀ k, 0 ≤ k → k < x → jf t 1002 (b + 2) k = i 3 k 0) (fun x => [b, b', x]) 0 2048 (by omega) ⟨k, f2, f3, f4, fun y y0 y1 => by omega⟩ (fun x t x0 x1 ⟨k, f2, f3, f4, f5⟩ => ?_) (fun t ⟨k, f2, f3, f4, f5⟩ => ?_)
    · show jE (b_X23_set_46 t b b' x) _
      unfold b_X23_set_46
      have T' := T.ext k.2
      obtain ⟨⟨t1, t2⟩, ⟨t3, t4, t5, t6, t7⟩, t8, t9, t10, t11⟩ := T43 T'
      have I := h.kf k (by omega)
      have hl : jld t 1002 (b' + 2) x = some (jf t 1002 (b' + 2) x) := by
        unfold jld; exact if_pos ⟨t9, t10, x0, by rw [t11]; exact x1⟩
      rw [if_pos x1, jrd_in t1 t2, Option.bind_some, t8, hl, Option.bind_some, I.2.2.2.1 x x0 x1, jst_in x0 x1, Option.bind_some, Wz_in (vi.2.2.2 x x0 x1), W32_in (by omega) (by omega)]
      refine jS_end ⟨rfl, k.jp rfl (by omega) (by omega), by (repeat (first | rw [jf_neg (by omega)] | rw [jf_pos (by omega)] | rw [ou_neg (by omega)] | rw [ou_pos (by omega)])); exact f2, by (repeat (first | rw [jf_neg (by omega)] | rw [jf_pos (by omega)] | rw [ou_neg (by omega)] | rw [ou_pos (by omega)])); exact f3, fun y y0 y1 => ⟨(f4 y y0 y1).1.keep fun c a k a0 a1 => jf_neg (by unfold vsg at a0; omega), by rw [jf_neg (by omega)]; exact (f4 y y0 y1).2⟩, fun j j0 j1 => ?_⟩
      by_cases c : j = x
      · rw [jf_pos ⟨rfl, rfl, c⟩, c]
      · (repeat (first | rw [jf_neg (by omega)] | rw [jf_pos (by omega)] | rw [ou_neg (by omega)] | rw [ou_pos (by omega)])); exact f5 j j0 (by omega)
    · show jE (b_X23_set_46 t b b' 2048) _
      unfold b_X23_set_46
      rw [if_neg (by omega)]
      exact jS_inr (jS_end ⟨k, fun y y0 y1 => (f4 y y0 y1).1, f2, f3, f5, fun y y0 y1 => (f4 y y0 y1).2⟩)
end jIread6
