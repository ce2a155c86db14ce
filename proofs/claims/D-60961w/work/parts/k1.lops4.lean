/-! the component's layout is built: anew, alignments; a label is put -/
set_option maxRecDepth 100000
section jLops4
variable {s t u w' : jS} {a b k m o p v l n x y c j X f z B i q w S P Q P' Q' K : Int} {d e : Int → Int → Int} {g : Int → Int}
/-- nothing but base and alignments -/
def dEm (b : Int) (g : Int → Int) : Int → Int → Int := fun f k => if f = 0 ∧ k = 3 then b else if f = 14 then g k else 0
theorem dEm_0 (h : ¬ (f = 0 ∧ k = 3)) (h' : ¬ f = 14) : dEm b g f k = 0 := by unfold dEm; rw [if_neg h, if_neg h']
theorem dEm_b : dEm b g 0 3 = b := if_pos ⟨rfl, rfl⟩
theorem dEm_g : dEm b g 14 k = g k := by unfold dEm; rw [if_neg (by omega), if_pos rfl]
theorem vLy.em (hb : 0 ≤ b ∧ b ≤ 1048576) (hg : ∀ o, 0 ≤ o → o < 4 → 0 ≤ g o ∧ g o ≤ 12) : vLy (dEm b g) := by
  refine ⟨by rw [dEm_0 (by decide) (by decide)]; decide, by rw [dEm_0 (by decide) (by decide)]; decide, by rw [dEm_0 (by decide) (by decide)]; decide, by rw [dEm_b]; exact hb, fun p p0 p1 => ?_, dEm_0 (by decide) (by decide), fun k k0 k1 => ?_, fun l l0 l1 => ?_, fun o o0 o1 => by rw [dEm_g]; exact hg o o0 o1⟩
  · rw [dEm_0 (by decide) (by decide)] at p1; omega
  · rw [dEm_0 (by decide) (by decide)] at k1; omega
  · rw [dEm_0 (by decide) (by decide)] at l1; omega
/-- the layout's own cells -/
def cBs (s : jS) (B : Int) : Prop := (0 ≤ B ∧ B + 11 < jn s ∧ jK s (B + 2) = 1020 ∧ jN s (B + 2) = 256) ∧ cPool s B ∧ 0 ≤ jn s
theorem cBu.em (h : cBs s B) (h1 : jf s 40 B 15 = 0 ∧ jf s 40 B 16 = 0 ∧ jf s 40 B 17 = 0 ∧ jf s 40 B 18 = b) (h2 : ∀ o, 0 ≤ o → o < 4 → jf s 1000 (B + 8) o = g o) (h3 : jf s 40 B 7 = 0 ∧ jf s 40 B 8 = 0 ∧ jf s 40 B 9 = 0 ∧ jf s 40 B 10 = 0) (h4 : jf s 40 B 19 = 0) : cBu s B (dEm b g) := by
  have e0 : dEm b g 0 0 = 0 := dEm_0 (by decide) (by decide)
  have e1 : dEm b g 0 1 = 0 := dEm_0 (by decide) (by decide)
  have e2 : dEm b g 0 2 = 0 := dEm_0 (by decide) (by decide)
  refine ⟨⟨h.1, ⟨by rw [e0]; exact h1.1, by rw [e1]; exact h1.2.1, by rw [e2]; exact h1.2.2.1, by rw [dEm_b]; exact h1.2.2.2⟩, fun o o0 o1 => by rw [dEm_g]; exact h2 o o0 o1, fun p p0 p1 => ?_, fun k k0 k1 => ?_, fun l l0 l1 => ?_, fun p q p0 p1 => ?_, fun p q p0 p1 => ?_, fun p q p0 p1 => ?_⟩, h.2.1, h4, h.2.2, fun K hk => ?_⟩
  · rw [e0] at p1; omega
  · rw [e1] at k1; omega
  · rw [e2] at l1; omega
  · rw [e0] at p1; omega
  · rw [e1] at p1; omega
  · rw [e2] at p1; omega
  · have : cNp s B K = 0 := by
      rcases hk with rfl | rfl | rfl | rfl
      · exact h3.1
      · exact h3.2.1
      · exact h3.2.2.1
      · exact h3.2.2.2
    rw [this, e1]
    exact ⟨by decide, fun k k0 k1 => by omega⟩
theorem cBu.em' (h : cBu s B (dEm b g)) : cBs s B ∧ (jf s 40 B 15 = 0 ∧ jf s 40 B 16 = 0 ∧ jf s 40 B 17 = 0 ∧ jf s 40 B 18 = b) ∧ (∀ o, 0 ≤ o → o < 4 → jf s 1000 (B + 8) o = g o) ∧ (jf s 40 B 7 = 0 ∧ jf s 40 B 8 = 0 ∧ jf s 40 B 9 = 0 ∧ jf s 40 B 10 = 0) ∧ jf s 40 B 19 = 0 := by
  obtain ⟨h, hp, h19, hn0, hN⟩ := h
  have e0 : dEm b g 0 0 = 0 := dEm_0 (by decide) (by decide)
  have e1 : dEm b g 0 1 = 0 := dEm_0 (by decide) (by decide)
  have e2 : dEm b g 0 2 = 0 := dEm_0 (by decide) (by decide)
  obtain ⟨c1, c2, c3, c4⟩ := h.2.1
  rw [e0] at c1; rw [e1] at c2; rw [e2] at c3; rw [dEm_b] at c4
  have z : ∀ K, isPk K → cNp s B K = 0 := fun K hk => by have := (hN K hk).1; rw [e1] at this; omega
  refine ⟨⟨h.1, hp, hn0⟩, ⟨c1, c2, c3, c4⟩, fun o o0 o1 => ?_, ⟨z 72 (.inl rfl), z 73 (.inr (.inl rfl)), z 76 (.inr (.inr (.inl rfl))), z 77 (.inr (.inr (.inr rfl)))⟩, h19⟩
  have := h.2.2.1 o o0 o1
  rw [dEm_g] at this; exact this
theorem cBs.cg (h : cBs s B) (m : jSm s u) (F : ∀ c a k, 1015 ≤ c → jf u c a k = jf s c a k) : cBs u B := by
  obtain ⟨m1, m2, m3, -⟩ := m
  refine ⟨by rw [m1, m2, m3]; exact h.1, h.2.1.cg (by rw [m3]; exact Int.le_refl _) (fun x _ => by rw [m1]) fun c a k q => F _ _ _ (by omega), by rw [m3]; exact h.2.2⟩
/-- anew -/
theorem c_lrenew (h : cBs s B) : ∃ u, m_X36_renew s B = some (u, 0) ∧ cBu u B (dEm 0 fun _ => 0) ∧ lbW B s u 0 0 := by
  rw [em_X36_renew]; unfold dm_X36_renew
  rw [jzb_in (.inl rfl : (0 : Int) = 0 ∨ (0 : Int) = 1)]
  obtain ⟨y1, E_y1⟩ : ∃ y1, y1 = jp s 40 B 15 0 := ⟨_, rfl⟩
  obtain ⟨f_y1, p_y1, -⟩ := jpF E_y1
  rw [jls_e, ← E_y1]
  obtain ⟨y2, E_y2⟩ : ∃ y2, y2 = jp y1 40 B 16 0 := ⟨_, rfl⟩
  obtain ⟨f_y2, p_y2, -⟩ := jpF E_y2
  rw [jls_e, ← E_y2]
  obtain ⟨y3, E_y3⟩ : ∃ y3, y3 = jp y2 40 B 17 0 := ⟨_, rfl⟩
  obtain ⟨f_y3, p_y3, -⟩ := jpF E_y3
  rw [jls_e, ← E_y3]
  obtain ⟨y4, E_y4⟩ : ∃ y4, y4 = jp y3 40 B 7 0 := ⟨_, rfl⟩
  obtain ⟨f_y4, p_y4, -⟩ := jpF E_y4
  rw [jls_e, ← E_y4]
  obtain ⟨y5, E_y5⟩ : ∃ y5, y5 = jp y4 40 B 8 0 := ⟨_, rfl⟩
  obtain ⟨f_y5, p_y5, -⟩ := jpF E_y5
  rw [jls_e, ← E_y5]
  obtain ⟨y6, E_y6⟩ : ∃ y6, y6 = jp y5 40 B 9 0 := ⟨_, rfl⟩
  obtain ⟨f_y6, p_y6, -⟩ := jpF E_y6
  rw [jls_e, ← E_y6]
  obtain ⟨y7, E_y7⟩ : ∃ y7, y7 = jp y6 40 B 10 0 := ⟨_, rfl⟩
  obtain ⟨f_y7, p_y7, -⟩ := jpF E_y7
  rw [jls_e, ← E_y7]
  obtain ⟨y8, E_y8⟩ : ∃ y8, y8 = jp y7 40 B 18 0 := ⟨_, rfl⟩
  obtain ⟨f_y8, p_y8, -⟩ := jpF E_y8
  rw [jls_e, ← E_y8]
  rw [Option.bind_some]
  obtain ⟨y, E_y⟩ : ∃ y, y = jp y8 40 B 19 0 := ⟨_, rfl⟩
  obtain ⟨f_y, p_y, -⟩ := jpF E_y
  rw [jls_e, ← E_y]
  have hm : jSm s y := ((((((((jSm.rfl.wr E_y1).wr E_y2).wr E_y3).wr E_y4).wr E_y5).wr E_y6).wr E_y7).wr E_y8).wr E_y
  have FY : ∀ c a k, ¬ (c = 40 ∧ a = B) → jf y c a k = jf s c a k := fun c a k q => by
    rw [f_y _ _ _ (by omega), f_y8 _ _ _ (by omega), f_y7 _ _ _ (by omega), f_y6 _ _ _ (by omega), f_y5 _ _ _ (by omega), f_y4 _ _ _ (by omega), f_y3 _ _ _ (by omega), f_y2 _ _ _ (by omega), f_y1 _ _ _ (by omega)]
  have V : ∀ k, k = 15 ∨ k = 16 ∨ k = 17 ∨ k = 18 ∨ k = 7 ∨ k = 8 ∨ k = 9 ∨ k = 10 ∨ k = 19 → jf y 40 B k = 0 := fun k hk => by
    rcases hk with rfl | rfl | rfl | rfl | rfl | rfl | rfl | rfl | rfl
    · rw [f_y _ _ _ (by omega), f_y8 _ _ _ (by omega), f_y7 _ _ _ (by omega), f_y6 _ _ _ (by omega), f_y5 _ _ _ (by omega), f_y4 _ _ _ (by omega), f_y3 _ _ _ (by omega), f_y2 _ _ _ (by omega)]; exact p_y1
    · rw [f_y _ _ _ (by omega), f_y8 _ _ _ (by omega), f_y7 _ _ _ (by omega), f_y6 _ _ _ (by omega), f_y5 _ _ _ (by omega), f_y4 _ _ _ (by omega), f_y3 _ _ _ (by omega)]; exact p_y2
    · rw [f_y _ _ _ (by omega), f_y8 _ _ _ (by omega), f_y7 _ _ _ (by omega), f_y6 _ _ _ (by omega), f_y5 _ _ _ (by omega), f_y4 _ _ _ (by omega)]; exact p_y3
    · rw [f_y _ _ _ (by omega)]; exact p_y8
    · rw [f_y _ _ _ (by omega), f_y8 _ _ _ (by omega), f_y7 _ _ _ (by omega), f_y6 _ _ _ (by omega), f_y5 _ _ _ (by omega)]; exact p_y4
    · rw [f_y _ _ _ (by omega), f_y8 _ _ _ (by omega), f_y7 _ _ _ (by omega), f_y6 _ _ _ (by omega)]; exact p_y5
    · rw [f_y _ _ _ (by omega), f_y8 _ _ _ (by omega), f_y7 _ _ _ (by omega)]; exact p_y6
    · rw [f_y _ _ _ (by omega), f_y8 _ _ _ (by omega)]; exact p_y7
    · exact p_y
  have L0 : lbW B s y 0 0 := lbW.rfl.of hm fun c a k q => FY _ _ _ fun z => q ⟨.inl (.inl z.1), .inl (by omega)⟩
  rw [eu_X36_renew_47]; unfold du_X36_renew_47
  obtain ⟨w, e, ⟨w1, w2⟩, w3⟩ := loopTo (C := jc2 b_X36_renew_47) (fun p w => (jSm y w ∧ ∀ c a k, ¬ (c = 1000 ∧ a = B + 8) → jf w c a k = jf y c a k) ∧ ∀ o, 0 ≤ o → o < p → jf w 1000 (B + 8) o = 0) (fun p => [B, p]) 0 4 (by decide) (s := y) (F := fun w => some (w, 0)) ⟨⟨jSm.rfl, fun _ _ _ _ => rfl⟩, fun o o0 o1 => by omega⟩ (fun p w p0 p1 ⟨⟨e1, e2⟩, e3⟩ => by
    show ∃ w', b_X36_renew_47 w B p = some (.inl (w', [B, p + 1])) ∧ _
    unfold b_X36_renew_47
    rw [if_pos p1, jst_in p0 p1, Option.bind_some, W32_in (by omega) (by omega)]
    refine ⟨_, rfl, ⟨e1.jp, fun c a k q => by rw [jf_neg (by omega)]; exact e2 c a k q⟩, fun o o0 o1 => ?_⟩
    by_cases c : o = p
    · rw [c]; exact jf_pos ⟨rfl, rfl, rfl⟩
    · rw [jf_neg (by omega)]; exact e3 o o0 (by omega)) (fun w _ => by
    show b_X36_renew_47 w B 4 = _
    unfold b_X36_renew_47
    rw [if_neg (by decide)])
  have W' : ∀ k, jf w 40 B k = jf y 40 B k := fun k => w2 _ _ _ (by omega)
  refine ⟨w, e, cBu.em (h.cg (hm.trans w1) fun c a k hc => by rw [w2 _ _ _ (by omega), FY _ _ _ (by omega)]) ?_ w3 ?_ ?_, L0.of w1 fun c a k q => w2 _ _ _ fun z => q ⟨.inr ⟨z.1, by omega⟩, .inl (by omega)⟩⟩
  · rw [W', W', W', W']; exact ⟨V 15 (by omega), V 16 (by omega), V 17 (by omega), V 18 (by omega)⟩
  · rw [W', W', W', W']; exact ⟨V 7 (by omega), V 8 (by omega), V 9 (by omega), V 10 (by omega)⟩
  · rw [W']; exact V 19 (by omega)
theorem c_lalign (h : cBu s B (dEm b g)) (ho : 0 ≤ o ∧ o < 4) (hw : 0 ≤ w ∧ w ≤ 12) : ∃ u, m_X36_align s B o w = some (u, 1) ∧ cBu u B (dEm b fun k => if k = o then w else g k) ∧ lbW B s u 0 0 := by
  obtain ⟨h0, h1, h2, h3, h4⟩ := h.em'
  rw [em_X36_align]; unfold dm_X36_align
  rw [e_X36_in, if_pos (by omega), Option.bind_some, if_neg n10, e_X36_in, if_pos (by omega), Option.bind_some, if_neg n10, jst_in ho.1 ho.2, Option.bind_some, jzb_in (.inl rfl : (0 : Int) = 0 ∨ (0 : Int) = 1), Option.bind_some]
  obtain ⟨y1, Y1⟩ : ∃ y1, y1 = jp s 1000 (B + 8) o w := ⟨_, rfl⟩
  obtain ⟨f1, p1, -⟩ := jpF Y1
  rw [← Y1]
  obtain ⟨y, E_y⟩ : ∃ y, y = jp y1 40 B 19 0 := ⟨_, rfl⟩
  obtain ⟨f_y, p_y, -⟩ := jpF E_y
  rw [jls_e, ← E_y]
  rw [Wz_1]
  have hm : jSm s y := (jSm.rfl.wr Y1).wr E_y
  have W' : ∀ k, ¬ k = 19 → jf y 40 B k = jf s 40 B k := fun k hk => by rw [f_y _ _ _ (by omega), f1 _ _ _ (by omega)]
  refine ⟨y, rfl, cBu.em (h0.cg hm fun c a k hc => by rw [f_y _ _ _ (by omega), f1 _ _ _ (by omega)]) ?_ (fun i o0 o1 => ?_) ?_ p_y, lbW.rfl.of hm fun c a k q => ?_⟩
  · rw [W' _ (by decide), W' _ (by decide), W' _ (by decide), W' _ (by decide)]; exact h1
  · rw [f_y _ _ _ (by omega)]
    by_cases c : i = o
    · rw [c, if_pos rfl]; exact p1
    · rw [if_neg c, f1 _ _ _ (by omega)]; exact h2 i o0 o1
  · rw [W' _ (by decide), W' _ (by decide), W' _ (by decide), W' _ (by decide)]; exact h3
  · rw [f_y _ _ _ (fun z => q ⟨.inl (.inl z.1), .inl (by omega)⟩), f1 _ _ _ (fun z => q ⟨.inr ⟨z.1, by omega⟩, .inl (by omega)⟩)]
/-- a label is put -/
theorem c_lput (h : cBu s B d) (v : vLy d) (hl : 0 ≤ l ∧ l < d 0 2) (hk : 0 ≤ k ∧ k < d 0 1) (ha : 0 ≤ a ∧ a ≤ if d 5 k = 0 then d 6 k else 1) : ∃ u, m_X36_put s B l k a = some (u, 1) ∧ cBu u B (dLp d l k a) ∧ lbW B s u 0 0 := by
  have hB := h
  obtain ⟨h, hp, h19, hn0, hN⟩ := h
  have v1 := v.2.1
  have v2 := v.2.2.1
  obtain ⟨⟨k1, k2, k3⟩, -, q3, q4, -⟩ := h.2.2.2.2.1 k hk.1 hk.2
  obtain ⟨⟨l1, l2, l3⟩, -⟩ := h.2.2.2.2.2.1 l hl.1 hl.2
  have cb : mp_X53_canBe s (poK s B k) a = some 1 := by
    rw [emp_X53_canBe]; unfold dmp_X53_canBe
    have kk := kOf_c (f := d 5 k)
    rcases kk with ⟨e1, e2, e3⟩ | ⟨e1, e2, e3⟩ | ⟨e1, e2, e3⟩ | ⟨e1, e2, e3, e4, e5⟩ <;> rw [e1] at k3
    · rw [if_pos e3] at ha
      rw [if_pos ⟨k1, k3⟩, jct_in (leafT (ty := 88) rfl rfl (by decide) ⟨k1, k2, k3⟩), e_X54_canBe, q3 e3, if_pos (by omega)]
    · rw [if_neg (by omega)] at ha
      rw [if_neg (by omega), if_pos ⟨k1, k3⟩, jct_in (leafT (ty := 89) rfl rfl (by decide) ⟨k1, k2, k3⟩), e_X55_canBe, if_pos (by omega)]
    · rw [if_neg (by omega)] at ha
      rw [if_neg (by omega), if_neg (by omega), if_pos ⟨k1, k3⟩, e_X57_canBe, if_pos (by omega)]
    · rw [if_neg (by omega)] at ha
      rw [if_neg (by omega), if_neg (by omega), if_neg (by omega), if_pos ⟨k1, k3⟩, e_X57_canBe, if_pos (by omega)]
  rw [em_X36_put]; unfold dm_X36_put
  rw [c_isLb h v hl.1 hl.2, Option.bind_some, if_neg n10, e_X36_isPiece, h.2.1.2.1, W32_in (by omega) (by omega), if_pos (by omega), Option.bind_some, if_neg n10, jlt_in hk.1 (by omega), Option.bind_some, cb, Option.bind_some, if_neg n10, jlt_in hl.1 (by omega), Option.bind_some, Option.bind_some, jwr_in l1 l3, Option.bind_some]
  obtain ⟨y1, Y1⟩ : ∃ y1, y1 = jp s 74 (poL s B l) 0 (poK s B k) := ⟨_, rfl⟩
  obtain ⟨f1, p1, -⟩ := jpF Y1
  have m1 : jSm s y1 := jSm.rfl.wr Y1
  rw [← Y1, jlt_in hl.1 (by omega), Option.bind_some, f1 _ _ _ (by omega), jwr_in l1 (by rw [m1.1]; exact l3), Option.bind_some, Wz_1]
  obtain ⟨y, Y⟩ : ∃ y, y = jp y1 74 (poL s B l) 1 a := ⟨_, rfl⟩
  obtain ⟨f2, p2, -⟩ := jpF Y
  rw [← Y]
  have hm : jSm s y := m1.wr Y
  have FY : ∀ c a k, ¬ (c = 74 ∧ a = poL s B l) → jf y c a k = jf s c a k := fun c a k q => by rw [f2 _ _ _ (by omega), f1 _ _ _ (by omega)]
  have H : ∀ f x, ¬ f = 12 → ¬ f = 13 → dLp d l k a f x = d f x := fun f k h1 h2 => dLp_no (by omega)
  have cy : cLs y B (dLp d l k a) := by
    obtain ⟨b, ⟨c1, c2, c3, c4⟩, h3, h4, h5, h6, h7, h8, h9⟩ := h
    obtain ⟨q1, q2, q3, -⟩ := hm
    have eP : ∀ q, poP y B q = poP s B q := fun q => FY _ _ _ (by omega)
    have eK : ∀ q, poK y B q = poK s B q := fun q => FY _ _ _ (by omega)
    have eL : ∀ q, poL y B q = poL s B q := fun q => FY _ _ _ (by omega)
    refine ⟨by rw [q1, q2, q3]; exact b, ⟨by rw [FY _ _ _ (by omega), H _ _ (by decide) (by decide)]; exact c1, by rw [FY _ _ _ (by omega), H _ _ (by decide) (by decide)]; exact c2, by rw [FY _ _ _ (by omega), H _ _ (by decide) (by decide)]; exact c3, by rw [FY _ _ _ (by omega), H _ _ (by decide) (by decide)]; exact c4⟩, fun o o0 o1 => by rw [FY _ _ _ (by omega), H _ _ (by decide) (by decide)]; exact h3 o o0 o1, fun p p0 p1 => ?_, fun k k0 k1 => ?_, fun x l0 l1 => ?_, fun p q p0 p1 q0 q1 => ?_, fun p q p0 p1 q0 q1 => ?_, fun p q p0 p1 q0 q1 => ?_⟩
    · rw [H _ _ (by decide) (by decide)] at p1
      have := h4 p p0 p1
      unfold cPt at this ⊢
      rw [eP, eK, eK, q1, q3, H 1 _ (by decide) (by decide), H 2 _ (by decide) (by decide), H 3 _ (by decide) (by decide), H 4 _ (by decide) (by decide), FY _ _ _ (by omega), FY _ _ _ (by omega), FY _ _ _ (by omega), FY _ _ _ (by omega), FY _ _ _ (by omega)]
      exact this
    · rw [H _ _ (by decide) (by decide)] at k1
      have := h5 k k0 k1
      have kk := kOf_c (f := d 5 k)
      unfold cPc pcX mvK at this ⊢
      rw [H 5 _ (by decide) (by decide), H 6 _ (by decide) (by decide), H 7 _ (by decide) (by decide), H 8 _ (by decide) (by decide), H 9 _ (by decide) (by decide), H 10 _ (by decide) (by decide), H 11 _ (by decide) (by decide), H 15 _ (by decide) (by decide), H 16 _ (by decide) (by decide), H 4 _ (by decide) (by decide), eK, eK, eP, eL, q1, q3]
      have R : ∀ c j, ¬ c = 74 → jf y c (poK s B k) j = jf s c (poK s B k) j := fun c j hc => FY _ _ _ (by omega)
      rw [R _ _ (by omega), R _ _ (by omega), R _ _ (by omega), R _ _ (by omega), R _ _ (by omega), R _ _ (by omega), R _ _ (by omega), R _ _ (by omega), R _ _ (by omega), R _ _ (by omega), R _ _ (by omega), R _ _ (by omega)]
      exact this
    · rw [H _ _ (by decide) (by decide)] at l1
      unfold cLb
      by_cases c : x = l
      · rw [c, eL, dLp_12, if_neg (by omega), dLp_13, q1, q3, eK]
        refine ⟨(h6 l (by omega) (by omega)).1, ?_, p2⟩
        rw [f2 _ _ _ (by omega)]; exact p1
      · have := h6 x l0 l1
        have nx := h9 x l l0 l1 hl.1 hl.2 c
        unfold cLb at this
        rw [eL, eK, q1, q3, dLp_no (f := 12) (by omega), dLp_no (f := 13) (by omega), FY _ _ _ (by omega), FY _ _ _ (by omega)]
        exact this
    · rw [H _ _ (by decide) (by decide)] at p1 q1
      rw [eP, eP]; exact h7 p q p0 p1 q0 q1
    · rw [H _ _ (by decide) (by decide)] at p1 q1
      rw [eK, eK]; exact h8 p q p0 p1 q0 q1
    · rw [H _ _ (by decide) (by decide)] at p1 q1
      rw [eL, eL]; exact h9 p q p0 p1 q0 q1
  exact ⟨y, rfl, hB.cg cy (by rw [hm.2.2.1]; exact Int.le_refl _) (fun x hx => by rw [hm.1]) (fun c a k q => FY _ _ _ (by omega)) (fun k => FY _ _ _ (by omega)) (fun k k0 k1 => FY _ _ _ (by omega)) (by rw [FY _ _ _ (by omega)]; exact h19) (H _ _ (by decide) (by decide)) (fun k => H _ _ (by decide) (by decide)), lbW.rfl.of hm fun c a' k' q => FY _ _ _ fun z => q ⟨.inl (.inr (.inl (by omega))), .inr (by rw [z.2, l3]; decide)⟩⟩
end jLops4
