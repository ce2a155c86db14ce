/-! the linker: shared parts as a loop; labels may be put once places are told *-/
set_option maxRecDepth 100000
section jLkx
variable {s t u w r s' t' s0 t0 q' : jS} {a b g k m n p v l x y0 c j z X f i o H B C P Q P' Q' S Si w0 l0 c0 z0 N M rr : Int} {O : Int → Int → Int → Int → Int} {d d' e : Int → Int → Int} {QQ : jS × Bool × Int → jS × Int → Prop}
theorem lu_shared (h : uJ C H S O s0 t0 e 6 0 s t) (hb : jBd s0 837 6663) (hF : ∀ (r : jS × Bool × Int) (q : jS × Int), q.2 = 0 → lkX C H s0 t0 837 6663 r q.1 → QQ r q) (hG : ∀ s t, shJ C H S O s0 t0 e (e 0 0) s t → jE2 (u_X35_layOut_250 s (C + 4275)) (u_X37_layParts_191 t H) QQ) : jE2 (u_X35_layOut_166 s (C + 4275)) (u_X37_layParts_113 t H) QQ := by
  have e0 : 0 ≤ e 0 0 := by obtain ⟨d, z, y, h1, -⟩ := h; exact h1.2.2.1.2.1.2.2.1.1
  rw [eu_X35_layOut_166, eu_X37_layParts_113]; unfold du_X35_layOut_166 du_X37_layParts_113
  rw [eu_X35_layOut_168, eu_X37_layParts_115]; unfold du_X35_layOut_168 du_X37_layParts_115
  refine jforE (C := jc2 b_X35_layOut_168) (D := jc2 b_X37_layParts_115) (fun g s t => shJ C H S O s0 t0 e g s t) (fun g => [C + 4275, g]) (fun g => [H, g]) 0 (e 0 0) e0 h.sh (fun g s t g0 g1 hj => ?_) (fun s t hj => ?_)
  · rcases sh_step hj g0 g1 hb with ⟨s', t', e1, e2, h3⟩ | ⟨r, q, e1, e2, e3, e4⟩
    · exact .inl ⟨s', t', e1, e2, h3⟩
    · exact .inr ⟨_, _, e1, e2, jE2_some.mpr (hF r q e3 e4)⟩
  · have hg : jf s 39 (C + 4275) 20 = e 0 0 := by obtain ⟨d, z, y, h1, -⟩ := hj; exact h1.2.2.1.2.1.1.1
    have hgt : jf t 41 H 81 = e 0 0 := by obtain ⟨d, z, y, h1, -⟩ := hj; exact h1.2.2.1.2.1.2.1.1
    refine ⟨u_X35_layOut_250 s (C + 4275), u_X37_layParts_191 t H, ?_, ?_, hG s t hj⟩
    · show b_X35_layOut_168 s (C + 4275) (e 0 0) = _
      unfold b_X35_layOut_168; rw [hg, if_neg (by omega)]
    · show b_X37_layParts_115 t H (e 0 0) = _
      unfold b_X37_layParts_115; rw [hgt, if_neg (by omega)]
/-- only labels' places differ -/
def dLs (d e : Int → Int → Int) : Prop := ∀ f k, ¬ f = 12 → ¬ f = 13 → e f k = d f k
theorem dLs.sz (h : dLs d e) : szK e k a = szK d k a := by
  unfold szK; rw [h 5 _ (by decide) (by decide), h 6 _ (by decide) (by decide), h 7 _ (by decide) (by decide), h 15 _ (by decide) (by decide)]
theorem dLs.lk (h : dLs d e) : ∀ (n : Nat) (a : Int), lyK e k n a = lyK d k n a
  | 0, a => rfl
  | n + 1, a => by unfold lyK; rw [h.lk n a, h.sz]
theorem dLs.lp (h : dLs d e) : ∀ (n : Nat) (a : Int), lyP e o n a = lyP d o n a
  | 0, a => rfl
  | n + 1, a => by unfold lyP; rw [h.lp n a, h.lk, h 1 _ (by decide) (by decide), h 2 _ (by decide) (by decide), h 3 _ (by decide) (by decide), h 4 _ (by decide) (by decide)]
theorem dLs.lo (h : dLs d e) : ∀ (n : Nat), lyO e n = lyO d n
  | 0 => by unfold lyO; exact h _ _ (by decide) (by decide)
  | n + 1 => by unfold lyO; rw [h.lo n, h.lp, h 0 _ (by decide) (by decide), h 14 _ (by decide) (by decide)]
theorem dLs.ob (h : dLs d e) : ouB e o = ouB d o := by unfold ouB; rw [h.lo, h 14 _ (by decide) (by decide)]
theorem dLs.oe (h : dLs d e) : ouE e o = ouE d o := by unfold ouE; rw [h.lo]
theorem dLs.pb (h : dLs d e) : paB e p = paB d p := by unfold paB; rw [h 1 _ (by decide) (by decide), h.ob, h.lp, h 2 _ (by decide) (by decide)]
theorem dLs.pe (h : dLs d e) : paE e p = paE d p := by unfold paE; rw [h.lk, h 3 _ (by decide) (by decide), h 4 _ (by decide) (by decide), h.pb]
theorem dLs.pl (h : dLs d e) : plK e k = plK d k := by unfold plK; rw [h 11 _ (by decide) (by decide), h 3 _ (by decide) (by decide), h.pb, h.lk]
theorem dLs.ld (h : dLs d e) (g : cLd s B d) : cLd s B e := by
  obtain ⟨g1, g2, g3⟩ := g
  refine ⟨fun k k0 k1 => ?_, fun p p0 p1 => ?_, fun o o0 o1 => ?_⟩
  · rw [h 0 _ (by decide) (by decide)] at k1
    unfold pcX; rw [h 5 _ (by decide) (by decide), h.pl]; exact g1 k k0 k1
  · rw [h 0 _ (by decide) (by decide)] at p1
    rw [h.pb, h.pe]; exact g2 p p0 p1
  · rw [h.ob, h.oe]; exact g3 o o0 o1
theorem dLp_ls : dLs d (dLp d l k a) := fun f x h1 h2 => dLp_no (by omega)
theorem cLd.fr (h : cLd s B d) (F : ∀ c a k, ¬ c = 74 → jf u c a k = jf s c a k) : cLd u B d := by
  obtain ⟨g1, g2, g3⟩ := h
  refine ⟨fun k k0 k1 => ?_, fun p p0 p1 => ?_, fun o o0 o1 => ?_⟩
  · have kk := kOf_c (f := d 5 k)
    have e1 : poK u B k = poK s B k := F _ _ _ (by decide)
    have := g1 k k0 k1
    unfold pcX at this ⊢
    rw [e1, F _ _ _ (by omega)]; exact this
  · unfold poP; rw [F _ _ _ (by decide), F _ _ _ (by decide), F _ _ _ (by decide)]; exact g2 p p0 p1
  · rw [F _ _ _ (by decide), F _ _ _ (by decide)]; exact g3 o o0 o1
theorem c_lputL (h : cLs s B d) (v : vLy d) (hl : 0 ≤ l ∧ l < d 0 2) (hk : 0 ≤ k ∧ k < d 0 1) (ha : 0 ≤ a ∧ a ≤ if d 5 k = 0 then d 6 k else 1) : ∃ u, m_X36_put s B l k a = some (u, 1) ∧ cLs u B (dLp d l k a) ∧ jSm s u ∧ ∀ c a k, ¬ (c = 74 ∧ jK s a = 74) → jf u c a k = jf s c a k := by
  have v1 := v.2.1
  have v2 := v.2.2.1
  obtain ⟨⟨k1, k2, k3⟩, -, q3, q4, -⟩ := h.2.2.2.2.1 k hk.1 hk.2
  obtain ⟨⟨l1, l2, l3⟩, -⟩ := h.2.2.2.2.2.1 l hl.1 hl.2
  have cb : mp_X53_canBe s (poK s B k) a = some 1 := by
    rw [emp_X53_canBe]; unfold dmp_X53_canBe
    have kk := kOf_c (f := d 5 k)
    rcases kk with ⟨e1, e2, e3⟩ | ⟨e1, e2, e3⟩ | ⟨e1, e2, e3⟩ | ⟨e1, e2, e3, e4, e5⟩ <;> rw [e1] at k3
    · rw [if_pos e3] at ha
      rw [if_pos ⟨k1, k3⟩, jct_in (leafT (ty := 88) rfl rfl (by decide) ⟨k1, k2, k3⟩), e_X54_canBe, q3 e3, if_pos (by omega)]
    · rw [if_neg (by omega)] at ha
      rw [if_neg (by omega), if_pos ⟨k1, k3⟩, jct_in (leafT (ty := 89) rfl rfl (by decide) ⟨k1, k2, k3⟩), e_X55_canBe, if_pos (by omega)]
    · rw [if_neg (by omega)] at ha
      rw [if_neg (by omega), if_neg (by omega), if_pos ⟨k1, k3⟩, e_X57_canBe, if_pos (by omega)]
    · rw [if_neg (by omega)] at ha
      rw [if_neg (by omega), if_neg (by omega), if_neg (by omega), if_pos ⟨k1, k3⟩, e_X57_canBe, if_pos (by omega)]
  rw [em_X36_put]; unfold dm_X36_put
  rw [c_isLb h v hl.1 hl.2, Option.bind_some, if_neg n10, e_X36_isPiece, h.2.1.2.1, W32_in (by omega) (by omega), if_pos (by omega), Option.bind_some, if_neg n10, jlt_in hk.1 (by omega), Option.bind_some, cb, Option.bind_some, if_neg n10, jlt_in hl.1 (by omega), Option.bind_some, Option.bind_some, jwr_in l1 l3, Option.bind_some]
  obtain ⟨y1, Y1⟩ : ∃ y1, y1 = jp s 74 (poL s B l) 0 (poK s B k) := ⟨_, rfl⟩
  obtain ⟨f1, p1, -⟩ := jpF Y1
  have m1 : jSm s y1 := jSm.rfl.wr Y1
  rw [← Y1, jlt_in hl.1 (by omega), Option.bind_some, f1 _ _ _ (by omega), jwr_in l1 (by rw [m1.1]; exact l3), Option.bind_some, Wz_1]
  obtain ⟨y, Y⟩ : ∃ y, y = jp y1 74 (poL s B l) 1 a := ⟨_, rfl⟩
  obtain ⟨f2, p2, -⟩ := jpF Y
  rw [← Y]
  have hm : jSm s y := m1.wr Y
  have FY : ∀ c a k, ¬ (c = 74 ∧ a = poL s B l) → jf y c a k = jf s c a k := fun c a k q => by rw [f2 _ _ _ (by omega), f1 _ _ _ (by omega)]
  have H : ∀ f x, ¬ f = 12 → ¬ f = 13 → dLp d l k a f x = d f x := fun f k h1 h2 => dLp_no (by omega)
  have cy : cLs y B (dLp d l k a) := by
    obtain ⟨b, ⟨c1, c2, c3, c4⟩, h3, h4, h5, h6, h7, h8, h9⟩ := h
    obtain ⟨q1, q2, q3, -⟩ := hm
    have eP : ∀ q, poP y B q = poP s B q := fun q => FY _ _ _ (by omega)
    have eK : ∀ q, poK y B q = poK s B q := fun q => FY _ _ _ (by omega)
    have eL : ∀ q, poL y B q = poL s B q := fun q => FY _ _ _ (by omega)
    refine ⟨by rw [q1, q2, q3]; exact b, ⟨by rw [FY _ _ _ (by omega), H _ _ (by decide) (by decide)]; exact c1, by rw [FY _ _ _ (by omega), H _ _ (by decide) (by decide)]; exact c2, by rw [FY _ _ _ (by omega), H _ _ (by decide) (by decide)]; exact c3, by rw [FY _ _ _ (by omega), H _ _ (by decide) (by decide)]; exact c4⟩, fun o o0 o1 => by rw [FY _ _ _ (by omega), H _ _ (by decide) (by decide)]; exact h3 o o0 o1, fun p p0 p1 => ?_, fun k k0 k1 => ?_, fun x l0 l1 => ?_, fun p q p0 p1 q0 q1 => ?_, fun p q p0 p1 q0 q1 => ?_, fun p q p0 p1 q0 q1 => ?_⟩
    · rw [H _ _ (by decide) (by decide)] at p1
      have := h4 p p0 p1
      unfold cPt at this ⊢
      rw [eP, eK, eK, q1, q3, H 1 _ (by decide) (by decide), H 2 _ (by decide) (by decide), H 3 _ (by decide) (by decide), H 4 _ (by decide) (by decide), FY _ _ _ (by omega), FY _ _ _ (by omega), FY _ _ _ (by omega), FY _ _ _ (by omega), FY _ _ _ (by omega)]
      exact this
    · rw [H _ _ (by decide) (by decide)] at k1
      have := h5 k k0 k1
      have kk := kOf_c (f := d 5 k)
      unfold cPc pcX mvK at this ⊢
      rw [H 5 _ (by decide) (by decide), H 6 _ (by decide) (by decide), H 7 _ (by decide) (by decide), H 8 _ (by decide) (by decide), H 9 _ (by decide) (by decide), H 10 _ (by decide) (by decide), H 11 _ (by decide) (by decide), H 15 _ (by decide) (by decide), H 16 _ (by decide) (by decide), H 4 _ (by decide) (by decide), eK, eK, eP, eL, q1, q3]
      have R : ∀ c j, ¬ c = 74 → jf y c (poK s B k) j = jf s c (poK s B k) j := fun c j hc => FY _ _ _ (by omega)
      rw [R _ _ (by omega), R _ _ (by omega), R _ _ (by omega), R _ _ (by omega), R _ _ (by omega), R _ _ (by omega), R _ _ (by omega), R _ _ (by omega), R _ _ (by omega), R _ _ (by omega), R _ _ (by omega), R _ _ (by omega)]
      exact this
    · rw [H _ _ (by decide) (by decide)] at l1
      unfold cLb
      by_cases c : x = l
      · rw [c, eL, dLp_12, if_neg (by omega), dLp_13, q1, q3, eK]
        refine ⟨(h6 l (by omega) (by omega)).1, ?_, p2⟩
        rw [f2 _ _ _ (by omega)]; exact p1
      · have := h6 x l0 l1
        have nx := h9 x l l0 l1 hl.1 hl.2 c
        unfold cLb at this
        rw [eL, eK, q1, q3, dLp_no (f := 12) (by omega), dLp_no (f := 13) (by omega), FY _ _ _ (by omega), FY _ _ _ (by omega)]
        exact this
    · rw [H _ _ (by decide) (by decide)] at p1 q1
      rw [eP, eP]; exact h7 p q p0 p1 q0 q1
    · rw [H _ _ (by decide) (by decide)] at p1 q1
      rw [eK, eK]; exact h8 p q p0 p1 q0 q1
    · rw [H _ _ (by decide) (by decide)] at p1 q1
      rw [eL, eL]; exact h9 p q p0 p1 q0 q1
  exact ⟨y, rfl, cy, hm, fun c a k q => FY _ _ _ fun z => q ⟨z.1, by rw [z.2]; exact l3⟩⟩
theorem c_lputY (h : cLy s B d) (v : vLy d) (hl : 0 ≤ l ∧ l < d 0 2) (hk : 0 ≤ k ∧ k < d 0 1) (ha : 0 ≤ a ∧ a ≤ if d 5 k = 0 then d 6 k else 1) : ∃ u, m_X36_put s B l k a = some (u, 1) ∧ cLy u B (dLp d l k a) ∧ jSm s u ∧ ∀ c a k, ¬ (c = 74 ∧ jK s a = 74) → jf u c a k = jf s c a k := by
  obtain ⟨u, e, c, m, F⟩ := c_lputL h.1 v hl hk ha
  refine ⟨u, e, ⟨c, ?_⟩, m, F⟩
  rw [F _ _ _ (fun z => absurd z.1 (by decide))]
  rcases h.2 with q | ⟨q1, q2⟩
  · exact .inl q
  · exact .inr ⟨q1, dLp_ls.ld (q2.fr fun c a k q => F c a k fun z => q z.1)⟩
end jLkx
