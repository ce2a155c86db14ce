/-! the component's layout is built: pieces -/
set_option maxRecDepth 100000
section jLadd
variable {s t u w' : jS} {a k m o p v l n x y c j X f z B i q w S P Q P' Q' : Int} {d e : Int → Int → Int}
/-- what a new piece's object holds -/
def cFlw (s : jS) (B x S n w l c z : Int) : Prop := (S = 0 → jf s 72 x 3 = n) ∧ (S = 4 → jf s 73 x 3 = w ∧ jf s 73 x 4 = n) ∧ (S = 1 ∨ S = 2 ∨ S = 3 → jf s (kOf S) x 0 = poL s B l ∧ jf s (kOf S) x 1 = c ∧ (jf s (kOf S) x 2 = if S = 1 then 8 else 4) ∧ jf s (kOf S) x 3 = 0) ∧ (S = 1 → jf s 76 x 7 = z) ∧ (S = 2 → jf s 77 x 7 = 1 ∧ jf s 77 x 8 = z) ∧ (S = 3 → jf s 77 x 7 = 0)
theorem jwp_pk {K : Int} (hk : isPk K) (hx : 0 ≤ x) (hK : jK s x = K) (y0 y1 : Int) : jwp s [(72, y0), (73, y0), (76, y1), (77, y1)] x v = some (jp s K x (if K = 72 ∨ K = 73 then y0 else y1) v) := by
  rcases hk with rfl | rfl | rfl | rfl <;> simp [jwp, hx, hK]
theorem kOf_o (S : Int) : isPk (kOf S) ∧ ((kOf S = 72 ∨ kOf S = 73) ∧ ofK S = 0 ∨ (kOf S = 76 ∨ kOf S = 77) ∧ ofK S = 4) := by
  have := kOf_c (f := S); omega
theorem kOf_7 (S : Int) : 72 ≤ kOf S ∧ kOf S ≤ 77 := by
  have := kOf_c (f := S); omega
theorem kOf_74 (S : Int) : ¬ kOf S = 74 := by
  have := kOf_c (f := S); omega
theorem ofK_i (S : Int) : (if kOf S = 72 ∨ kOf S = 73 then (2 : Int) else 6) = 2 + ofK S := by
  rcases (kOf_o S).2 with ⟨z1, z2⟩ | ⟨z1, z2⟩
  · rw [if_pos z1, z2]; rfl
  · rw [if_neg (by omega), z2]; rfl
theorem c_belong (hx : 0 ≤ x) (hK : jK s x = kOf S) : mp_X53_belong s x y = some (jp (jp s (kOf S) x (ofK S) y) (kOf S) x (2 + ofK S) (-1), 0) := by
  obtain ⟨hk, hk2⟩ := kOf_o S
  have e1 : mp_X53_belong s x y = m_X53_belong s x y := by
    rw [emp_X53_belong]; unfold dmp_X53_belong
    rcases hk with z | z | z | z <;> rw [z] at hK <;> simp [hx, hK]
  rw [e1, em_X53_belong]; unfold dm_X53_belong
  rw [jwp_pk hk hx hK, Option.bind_some, jwp_pk (s := jp s (kOf S) x _ y) hk hx hK, Option.bind_some]
  rcases hk2 with ⟨z1, z2⟩ | ⟨z1, z2⟩
  · rw [if_pos z1, if_pos z1, z2]; rfl
  · rw [if_neg (by omega), if_neg (by omega), z2]; rfl
/-- where the last piece's next is -/
theorem c_ladd1 (h : cLs s B d) (v : vLy d) (h0 : 0 < d 0 0) (h1 : d 0 1 < 256) (hx : 0 ≤ x ∧ x < jn s ∧ jK s x = kOf S) (nd : ∀ k, 0 ≤ k → k < d 0 1 → ¬ poK s B k = x) : ∃ u, m_X36_add s B (d 0 0 - 1) x = some (u, d 0 1) ∧ jSm s u ∧
    (∀ c a k, ¬ (c = kOf S ∧ a = x ∧ (k = ofK S ∨ k = 2 + ofK S)) → ¬ (c = 70 ∧ a = poP s B (d 0 0 - 1) ∧ (k = 6 ∨ k = 7)) → ¬ (d 3 (d 0 0 - 1) < d 0 1 ∧ c = kOf (d 5 (d 0 1 - 1)) ∧ a = poK s B (d 0 1 - 1) ∧ k = 2 + ofK (d 5 (d 0 1 - 1))) → ¬ (c = 1020 ∧ a = B + 2 ∧ k = d 0 1) → ¬ (c = 40 ∧ a = B ∧ (k = 16 ∨ k = 19)) → jf u c a k = jf s c a k) ∧
    (jf u (kOf S) x (ofK S) = poP s B (d 0 0 - 1) ∧ jf u (kOf S) x (2 + ofK S) = -1) ∧ (jf u 70 (poP s B (d 0 0 - 1)) 7 = x ∧ jf u 70 (poP s B (d 0 0 - 1)) 6 = if d 3 (d 0 0 - 1) < d 0 1 then poK s B (d 3 (d 0 0 - 1)) else x) ∧ (d 3 (d 0 0 - 1) < d 0 1 → jf u (kOf (d 5 (d 0 1 - 1))) (poK s B (d 0 1 - 1)) (2 + ofK (d 5 (d 0 1 - 1))) = x) ∧ jf u 1020 (B + 2) (d 0 1) = x ∧ jf u 40 B 16 = d 0 1 + 1 ∧ jf u 40 B 19 = 0 := by
  have v0 := v.1
  have v1 := v.2.1
  have hN := v.ptN h0
  have hS7 := kOf_7 S
  have hL7 := kOf_7 (d 5 (d 0 1 - 1))
  obtain ⟨x0, x1, x2⟩ := hx
  obtain ⟨⟨a1, a2, a3⟩, a4, a5, a6, a7, a8⟩ := h.2.2.2.1 (d 0 0 - 1) (by omega) (by omega)
  obtain ⟨-, -, g3, -⟩ := v.2.2.2.2.1 (d 0 0 - 1) (by omega) (by omega)
  rw [hN] at a7 a8 g3
  obtain ⟨pp, hpp⟩ : ∃ pp, pp = poP s B (d 0 0 - 1) := ⟨_, rfl⟩
  rw [← hpp] at a1 a2 a3 a6 a7 a8 ⊢
  obtain ⟨s2, S2⟩ : ∃ s2, s2 = jp (jp s (kOf S) x (ofK S) pp) (kOf S) x (2 + ofK S) (-1) := ⟨_, rfl⟩
  have m2 : jSm s s2 := by rw [S2]; exact jSm.rfl
  have F2 : ∀ c a k, ¬ (c = kOf S ∧ a = x ∧ (k = ofK S ∨ k = 2 + ofK S)) → jf s2 c a k = jf s c a k := fun c a k q => by rw [S2, jf_neg (by omega), jf_neg (by omega)]
  have r1 : jf s2 1019 (B + 1) (d 0 0 - 1) = pp := by rw [F2 _ _ _ (by omega)]; exact hpp.symm
  obtain ⟨⟨b0, b1, b2, b3⟩, -⟩ := id h
  -- the part's ends
  obtain ⟨s4, e4, m4, F4, P7, P6, PL⟩ : ∃ s4, m_X52_add s2 pp x = some (s4, 0) ∧ jSm s2 s4 ∧ (∀ c a k, ¬ (c = 70 ∧ a = pp ∧ (k = 6 ∨ k = 7)) → ¬ (d 3 (d 0 0 - 1) < d 0 1 ∧ c = kOf (d 5 (d 0 1 - 1)) ∧ a = poK s B (d 0 1 - 1) ∧ k = 2 + ofK (d 5 (d 0 1 - 1))) → jf s4 c a k = jf s2 c a k) ∧ jf s4 70 pp 7 = x ∧ (jf s4 70 pp 6 = if d 3 (d 0 0 - 1) < d 0 1 then poK s B (d 3 (d 0 0 - 1)) else x) ∧ (d 3 (d 0 0 - 1) < d 0 1 → jf s4 (kOf (d 5 (d 0 1 - 1))) (poK s B (d 0 1 - 1)) (2 + ofK (d 5 (d 0 1 - 1))) = x) := by
    rw [em_X52_add]; unfold dm_X52_add
    rw [F2 70 pp 6 (by omega), F2 70 pp 7 (by omega), a7, a8]
    by_cases c : d 3 (d 0 0 - 1) < d 0 1
    · rw [if_pos c, if_pos c]
      obtain ⟨⟨l1, l2, l3⟩, -⟩ := h.2.2.2.2.1 (d 0 1 - 1) (by omega) (by omega)
      obtain ⟨⟨f1, f2, f3⟩, -⟩ := h.2.2.2.2.1 (d 3 (d 0 0 - 1)) g3.1 c
      rw [if_neg (by omega), jwp_pk (kOf_o _).1 l1 (by rw [m2.1]; exact l3), Option.bind_some, eu_X52_add_23]; unfold du_X52_add_23
      rw [ofK_i]
      refine ⟨_, rfl, jSm.rfl, fun c' a' k' q1 q2 => by rw [jf_neg (by omega), jf_neg (by omega)], jf_pos ⟨rfl, rfl, rfl⟩, ?_, fun _ => ?_⟩
      · rw [jf_neg (by omega), jf_neg (by omega), F2 _ _ _ (by omega), a7, if_pos c, if_pos c]
      · rw [jf_neg (by omega)]; exact jf_pos ⟨rfl, rfl, rfl⟩
    · rw [if_neg c, if_neg c, if_pos (by decide), eu_X52_add_23]; unfold du_X52_add_23
      refine ⟨_, rfl, jSm.rfl, fun c' a' k' q1 q2 => ?_, jf_pos ⟨rfl, rfl, rfl⟩, ?_, fun q => absurd q c⟩
      · show jf (jp (jp s2 70 pp 6 x) 70 pp 7 x) c' a' k' = _
        rw [jf_neg (by omega), jf_neg (by omega)]
      · show jf (jp (jp s2 70 pp 6 x) 70 pp 7 x) 70 pp 6 = _
        rw [jf_neg (by omega), jf_pos ⟨rfl, rfl, rfl⟩, if_neg c]
  have mm := m2.trans m4
  rw [em_X36_add]; unfold dm_X36_add
  rw [jlt_in (by omega) (by omega), Option.bind_some, show jf s 1019 (B + 1) (d 0 0 - 1) = pp from hpp.symm, c_belong x0 x2, Option.bind_some, ← S2, jlt_in (by omega) (by omega), Option.bind_some, r1, jct_in (leafT (ty := 86) rfl rfl (by decide) ⟨a1, by rw [m2.2.2.1]; exact a2, by rw [m2.1]; exact a3⟩), e4, Option.bind_some]
  have e16 : jf s4 40 B 16 = d 0 1 := by rw [F4 _ _ _ (by omega) (by omega), F2 _ _ _ (by omega)]; exact h.2.1.2.1
  have hl : jK s4 x = 72 ∨ jK s4 x = 73 ∨ jK s4 x = 76 ∨ jK s4 x = 77 := by rw [mm.1, x2]; exact (kOf_o S).1
  rw [e16]
  show ∃ u, (jasL s4 1020 [72, 73, 76, 77] (B + 2) (d 0 1) x).bind _ = _ ∧ _
  unfold jasL
  rw [if_pos ⟨by omega, by rw [mm.1]; exact b2, v1.1, by rw [mm.2.1, b3]; exact h1, .inr ⟨x0, by simp only [List.mem_cons, List.mem_nil_iff, or_false]; exact hl⟩⟩, Option.bind_some]
  obtain ⟨u, U⟩ : ∃ u, u = jp (jp (jp s4 1020 (B + 2) (d 0 1) x) 40 B 16 (d 0 1 + 1)) 40 B 19 0 := ⟨_, rfl⟩
  have u16 : jf u 40 B 16 = d 0 1 + 1 := by rw [U, jf_neg (by omega)]; exact jf_pos ⟨rfl, rfl, rfl⟩
  have FU : ∀ c a k, ¬ (c = 1020 ∧ a = B + 2 ∧ k = d 0 1) → ¬ (c = 40 ∧ a = B ∧ (k = 16 ∨ k = 19)) → jf u c a k = jf s4 c a k := fun c a k q1 q2 => by rw [U, jf_neg (by omega), jf_neg (by omega), jf_neg (by omega)]
  refine ⟨u, ?_, mm.trans (by rw [U]; exact jSm.rfl), fun c a k q1 q2 q3 q4 q5 => by rw [FU _ _ _ q4 q5, F4 _ _ _ q2 q3, F2 _ _ _ q1], ?_, ⟨?_, ?_⟩, fun hc => ?_, ?_, u16, ?_⟩
  · simp only [jls, jzb_in (Or.inl rfl), Option.bind_some]
    rw [jf_neg (by omega), e16, W32_in (by omega) (by omega), ← U, u16, W32_in (by omega) (by omega)]
    rw [show d 0 1 + 1 - 1 = d 0 1 by omega]
  · have hne : ¬ (d 3 (d 0 0 - 1) < d 0 1 ∧ poK s B (d 0 1 - 1) = x) := fun q => nd (d 0 1 - 1) (by omega) (by omega) q.2
    rw [FU _ _ _ (by omega) (by omega), FU _ _ _ (by omega) (by omega), F4 _ _ _ (by omega) (by omega), F4 _ _ _ (by omega) (by omega), S2]
    exact ⟨by rw [jf_neg (by omega)]; exact jf_pos ⟨rfl, rfl, rfl⟩, jf_pos ⟨rfl, rfl, rfl⟩⟩
  · rw [FU _ _ _ (by omega) (by omega)]; exact P7
  · rw [FU _ _ _ (by omega) (by omega)]; exact P6
  · rw [FU _ _ _ (by omega) (by omega)]; exact PL hc
  · rw [U, jf_neg (by omega), jf_neg (by omega)]; exact jf_pos ⟨rfl, rfl, rfl⟩
  · rw [U]; exact jf_pos ⟨rfl, rfl, rfl⟩
theorem c_ladd (h : cLs s B d) (v : vLy d) (h0 : 0 < d 0 0) (h1 : d 0 1 < 256) (hS : 0 ≤ S ∧ S ≤ 4) (hx : 0 ≤ x ∧ x < jn s ∧ jK s x = kOf S) (nd : ∀ k, 0 ≤ k → k < d 0 1 → ¬ poK s B k = x) (hf : cFlw s B x S n w l c z) : ∃ u, m_X36_add s B (d 0 0 - 1) x = some (u, d 0 1) ∧ cLs u B (dPc d S n w l c z) ∧ jSm s u ∧ jf u 40 B 19 = 0 ∧ jf u 1020 (B + 2) (d 0 1) = x ∧ (∀ k, ¬ k = d 0 1 → jf u 1020 (B + 2) k = jf s 1020 (B + 2) k) ∧
    (∀ c a k, ¬ c = 70 → ¬ isPk c → ¬ c = 1020 → ¬ (c = 40 ∧ a = B ∧ (k = 16 ∨ k = 19)) → jf u c a k = jf s c a k) ∧ ∀ c a k, ¬ ((B ≤ a ∧ a ≤ B + 11) ∨ 70 ≤ jK s a ∧ jK s a ≤ 77) → jf u c a k = jf s c a k := by
  have v0 := v.1
  have v1 := v.2.1
  have hN := v.ptN h0
  have hS7 := kOf_7 S
  have hL7 := kOf_7 (d 5 (d 0 1 - 1))
  obtain ⟨u, eu, ⟨m1, m2, m3, m4⟩, F, ⟨f1, f2⟩, ⟨f3, f4⟩, f5, f6, f7, f8⟩ := c_ladd1 h v h0 h1 hx nd
  have hpn : ∀ p, 0 ≤ p → p < d 0 0 → ¬ p = d 0 0 - 1 → ¬ poP s B p = poP s B (d 0 0 - 1) := fun p p0 p1 hp => h.2.2.2.2.2.2.1 p (d 0 0 - 1) p0 p1 (by omega) (by omega) hp
  have hkn : ∀ p, 0 ≤ p → p < d 0 1 → ¬ p = d 0 1 - 1 → ¬ poK s B p = poK s B (d 0 1 - 1) := fun p p0 p1 hp => h.2.2.2.2.2.2.2.1 p (d 0 1 - 1) p0 p1 (by omega) (by omega) hp
  have hfr : ∀ c a k, ¬ ((B ≤ a ∧ a ≤ B + 11) ∨ 70 ≤ jK s a ∧ jK s a ≤ 77) → jf u c a k = jf s c a k := fun c a k hh => by
    have a1 := (h.2.2.2.1 (d 0 0 - 1) (by omega) (by omega)).1.2.2
    have a2 : ∀ S, 70 ≤ kOf S ∧ kOf S ≤ 77 := fun S => by have := kOf_7 S; omega
    refine F _ _ _ (fun q => hh (.inr ?_)) (fun q => hh (.inr ?_)) (fun q => hh (.inr ?_)) (fun q => hh (.inl (by omega))) (fun q => hh (.inl (by omega)))
    · rw [q.2.1, hx.2.2]; exact a2 S
    · rw [q.2.1, a1]; decide
    · have := (v.f (p := d 0 0 - 1) (by omega) (by omega)).1
      rw [q.2.2.1, (h.2.2.2.2.1 (d 0 1 - 1) (by omega) (by omega)).1.2.2]; exact a2 _
  refine ⟨u, eu, ?_, ⟨m1, m2, m3, m4⟩, f8, f6, fun k hk => F _ _ _ (by omega) (by omega) (by omega) (by omega) (by omega), fun c a k q1 q2 q3 q4 => F _ _ _ (fun z => q2 (by rw [z.1]; exact (kOf_o S).1)) (by omega) (fun z => q2 (by rw [z.2.1]; exact (kOf_o _).1)) (by omega) (by omega), hfr⟩
  obtain ⟨e5, e6, e7, e8, e9, e10, e11, e15, e16⟩ := dPc_at (d := d) (S := S) (n := n) (w := w) (l := l) (c := c) (z := z)
  have eP : ∀ q, poP u B q = poP s B q := fun q => F _ _ _ (by omega) (by omega) (by omega) (by omega) (by omega)
  have eK : ∀ q, ¬ q = d 0 1 → poK u B q = poK s B q := fun q hq => F _ _ _ (by omega) (by omega) (by omega) (by omega) (by omega)
  have eN : poK u B (d 0 1) = x := f6
  have eL : ∀ q, poL u B q = poL s B q := fun q => F _ _ _ (by omega) (by omega) (by omega) (by omega) (by omega)
  obtain ⟨⟨b0, b1, b2, b3⟩, ⟨c1, c2, c3, c4⟩, h3, h4, h5, h6, h7, h8, h9⟩ := h
  have H0 : dPc d S n w l c z 0 0 = d 0 0 := dPc_no (by omega) (by omega) (by omega)
  have H2 : dPc d S n w l c z 0 2 = d 0 2 := dPc_no (by omega) (by omega) (by omega)
  have H3 : ∀ p, dPc d S n w l c z 3 p = d 3 p := fun p => dPc_no (by omega) (by omega) (by omega)
  have H4 : ∀ p, ¬ p = d 0 0 - 1 → dPc d S n w l c z 4 p = d 4 p := fun p hp => dPc_no (by omega) (by omega) (by omega)
  have H : ∀ f k, ¬ f = 0 → ¬ f = 4 → ¬ k = d 0 1 → dPc d S n w l c z f k = d f k := fun f k h0 h4 hk => dPc_no (by omega) (by omega) (by omega)
  refine ⟨by rw [m1, m2, m3]; exact ⟨b0, b1, b2, b3⟩, ⟨by rw [H0, F _ _ _ (by omega) (by omega) (by omega) (by omega) (by omega)]; exact c1, by rw [dPc_0]; exact f7, by rw [H2, F _ _ _ (by omega) (by omega) (by omega) (by omega) (by omega)]; exact c3, by rw [dPc_no (by omega) (by omega) (by omega), F _ _ _ (by omega) (by omega) (by omega) (by omega) (by omega)]; exact c4⟩, fun o o0 o1 => by rw [dPc_no (by omega) (by omega) (by omega), F _ _ _ (by omega) (by omega) (by omega) (by omega) (by omega)]; exact h3 o o0 o1, fun p p0 p1 => ?_, fun k k0 k1 => ?_, fun q l0 l1 => ?_, fun p q p0 p1 q0 q1 => ?_, fun p q p0 p1 q0 q1 => ?_, fun p q p0 p1 q0 q1 => ?_⟩
  · rw [H0] at p1
    obtain ⟨a1, a2, a3, a4, a5, a6⟩ := h4 p p0 p1
    have g3 := v.f p0 p1
    unfold cPt
    rw [eP, m1, m3, dPc_no (f := 1) (by omega) (by omega) (by omega), dPc_no (f := 2) (by omega) (by omega) (by omega), H3, F 70 _ 0 (by omega) (by omega) (by omega) (by omega) (by omega), F 70 _ 1 (by omega) (by omega) (by omega) (by omega) (by omega), F 70 _ 4 (by omega) (by omega) (by omega) (by omega) (by omega)]
    refine ⟨a1, a2, a3, a4, ?_⟩
    by_cases cp : p = d 0 0 - 1
    · rw [cp] at g3 ⊢
      rw [hN] at g3
      rw [dPc_4, if_pos (by omega), if_pos (by omega), f4, f3, show d 0 1 + 1 - 1 = d 0 1 by omega, eN]
      refine ⟨?_, rfl⟩
      by_cases c : d 3 (d 0 0 - 1) < d 0 1
      · rw [if_pos c, eK _ (by omega)]
      · rw [if_neg c, show d 3 (d 0 0 - 1) = d 0 1 by omega, eN]
    · have np := hpn p p0 p1 cp
      have e43 : d 4 p ≤ d 0 1 := g3.2.2
      rw [H4 p cp, F 70 _ 6 (by omega) (by omega) (by omega) (by omega) (by omega), F 70 _ 7 (by omega) (by omega) (by omega) (by omega) (by omega), a5, a6]
      by_cases c : d 3 p < d 4 p
      · rw [if_pos c, if_pos c, if_pos c, if_pos c, eK _ (by omega), eK _ (by omega)]; exact ⟨rfl, rfl⟩
      · rw [if_neg c, if_neg c, if_neg c, if_neg c]; exact ⟨rfl, rfl⟩
  · rw [dPc_0] at k1
    unfold cPc pcX mvK
    by_cases ck : k = d 0 1
    · have nx : ¬ (d 3 (d 0 0 - 1) < d 0 1 ∧ x = poK s B (d 0 1 - 1)) := fun q => nd _ (by have := (v.f (p := d 0 0 - 1) (by omega) (by omega)).1; omega) (by omega) q.2.symm
      rw [ck, e5, e6, e7, e8, e9, e10, e11, e15, e16, dPc_4, eN, eP, eL, m1, m3, if_neg (by omega)]
      obtain ⟨r0, r4, rm, r1, r2, r3⟩ := hf
      have G : ∀ c j, (c = kOf S → ¬ (j = ofK S ∨ j = 2 + ofK S)) → 72 ≤ c → c ≤ 77 → jf u c x j = jf s c x j := fun c j hc h0 h1 => F _ _ _ (fun z => hc z.1 z.2.2) (by omega) (fun z => nx ⟨z.1, z.2.2.1⟩) (by omega) (by omega)
      refine ⟨hx, ⟨by rw [Int.zero_add]; exact f1, f2⟩, fun q => by rw [G _ _ (fun _ => by rw [q]; decide) (by decide) (by decide)]; exact r0 q, fun q => by rw [G _ _ (fun _ => by rw [q]; decide) (by decide) (by decide), G _ _ (fun _ => by rw [q]; decide) (by decide) (by decide)]; exact r4 q, fun q => ?_, fun q => ?_, fun q => ?_, fun q => ?_⟩
      · obtain ⟨g1, g2, g3, g4⟩ := rm q
        have o4 : ofK S = 4 := by rcases q with q | q | q <;> rw [q] <;> rfl
        have G' : ∀ j, 0 ≤ j → j ≤ 3 → jf u (kOf S) x j = jf s (kOf S) x j := fun j j0 j1 => G _ _ (fun _ => by rw [o4]; omega) hS7.1 hS7.2
        rw [G' 0 (by decide) (by decide), G' 1 (by decide) (by decide), G' 2 (by decide) (by decide), G' 3 (by decide) (by decide)]
        exact ⟨g1, g2, g3, g4⟩
      · rw [G _ _ (fun _ => by rw [q]; decide) (by decide) (by decide)]; exact r1 q
      · rw [G _ _ (fun _ => by rw [q]; decide) (by decide) (by decide), G _ _ (fun _ => by rw [q]; decide) (by decide) (by decide)]; exact r2 q
      · rw [G _ _ (fun _ => by rw [q]; decide) (by decide) (by decide)]; exact r3 q
    · have hk1 : k < d 0 1 := by omega
      obtain ⟨a1, ⟨a2, a2'⟩, a3, a4, a5, a6, a7, a8⟩ := h5 k k0 hk1
      obtain ⟨-, ⟨w1, w2, w3, w4⟩, -⟩ := v.2.2.2.2.2.2.1 k k0 hk1
      have nk := nd k k0 hk1
      have nl : ¬ k = d 0 1 - 1 → ¬ poK s B k = poK s B (d 0 1 - 1) := hkn k k0 hk1
      unfold pcX at a2 a2'
      have R : ∀ c j, isPk c → (c = kOf (d 5 k) → j = 2 + ofK (d 5 k) → ¬ (k = d 0 1 - 1 ∧ d 3 (d 0 0 - 1) < d 0 1)) → jf u c (poK s B k) j = jf s c (poK s B k) j := fun c j hc hj => F _ _ _ (fun q => nk q.2.1) (fun q => by rcases hc with z | z | z | z <;> rw [z] at q <;> exact absurd q.1 (by decide)) (fun q => by
        by_cases cl : k = d 0 1 - 1
        · rw [← cl] at q; exact hj q.2.1 q.2.2.2 ⟨cl, q.1⟩
        · exact nl cl q.2.2.1) (fun q => by rcases hc with z | z | z | z <;> rw [z] at q <;> exact absurd q.1 (by decide)) (fun q => by rcases hc with z | z | z | z <;> rw [z] at q <;> exact absurd q.1 (by decide))
      have hne : ∀ c j, isPk c → ¬ j = 2 + ofK (d 5 k) → jf u c (poK s B k) j = jf s c (poK s B k) j := fun c j hc hj => R c j hc fun _ z => absurd z hj
      have hc : isPk (kOf (d 5 k)) := (kOf_o _).1
      have hlast : k = d 0 1 - 1 → d 3 (d 0 0 - 1) < d 0 1 → d 11 k = d 0 0 - 1 := fun q1 q2 => v.pt (by omega) (by omega) (by omega) (by omega)
      rw [H 5 k (by decide) (by decide) ck, H 6 k (by decide) (by decide) ck, H 7 k (by decide) (by decide) ck, H 8 k (by decide) (by decide) ck, H 9 k (by decide) (by decide) ck, H 10 k (by decide) (by decide) ck, H 11 k (by decide) (by decide) ck, H 15 k (by decide) (by decide) ck, H 16 k (by decide) (by decide) ck, eK k ck, eP, eL, m1, m3]
      have o0 : d 5 k = 0 ∨ d 5 k = 4 → ofK (d 5 k) = 0 := fun q => by rcases q with q | q <;> rw [q] <;> rfl
      have o4 : d 5 k = 1 ∨ d 5 k = 2 ∨ d 5 k = 3 → ofK (d 5 k) = 4 := fun q => by rcases q with q | q | q <;> rw [q] <;> rfl
      refine ⟨a1, ⟨by rw [hne _ _ hc (by omega)]; exact a2, ?_⟩, fun q => by rw [hne _ _ (.inl rfl) (by rw [o0 (.inl q)]; decide)]; exact a3 q, fun q => by rw [hne _ _ (.inr (.inl rfl)) (by rw [o0 (.inr q)]; decide), hne _ _ (.inr (.inl rfl)) (by rw [o0 (.inr q)]; decide)]; exact a4 q, fun q => ?_, fun q => by rw [hne _ _ (.inr (.inr (.inl rfl))) (by rw [o4 (.inl q)]; decide)]; exact a6 q, fun q => by rw [hne _ _ (.inr (.inr (.inr rfl))) (by rw [o4 (.inr (.inl q))]; decide), hne _ _ (.inr (.inr (.inr rfl))) (by rw [o4 (.inr (.inl q))]; decide)]; exact a7 q, fun q => by rw [hne _ _ (.inr (.inr (.inr rfl))) (by rw [o4 (.inr (.inr q))]; decide)]; exact a8 q⟩
      · by_cases cp : d 11 k = d 0 0 - 1
        · rw [cp, dPc_4, if_pos (by omega)]
          rw [cp] at a2' w3
          by_cases cl : k = d 0 1 - 1
          · rw [cl, show d 0 1 - 1 + 1 = d 0 1 by omega, eN]
            exact f5 (by omega)
          · rw [R _ _ hc (fun _ _ z => cl z.1), a2', hN, if_pos (by omega), eK _ (by omega)]
        · have g3 := v.f w1 w2
          rw [H4 _ cp, R _ _ hc (fun _ _ q => cp (hlast q.1 q.2)), a2']
          by_cases c : k + 1 < d 4 (d 11 k)
          · rw [if_pos c, if_pos c, eK _ (by omega)]
          · rw [if_neg c, if_neg c]
      · obtain ⟨g1, g2, g3, g4⟩ := a5 q
        unfold mvK at q
        have o := o4 q
        rw [hne _ _ hc (by rw [o]; decide), hne _ _ hc (by rw [o]; decide), hne _ _ hc (by rw [o]; decide), hne _ _ hc (by rw [o]; decide)]
        exact ⟨g1, g2, g3, g4⟩
  · rw [H2] at l1
    obtain ⟨a1, a2, a3⟩ := h6 q l0 l1
    have n74 := kOf_74 S
    have n74' := kOf_74 (d 5 (d 0 1 - 1))
    unfold cLb
    rw [eL, m1, m3, dPc_no (f := 12) (by omega) (by omega) (by omega), dPc_no (f := 13) (by omega) (by omega) (by omega), F _ _ _ (by omega) (by omega) (by omega) (by omega) (by omega), F _ _ _ (by omega) (by omega) (by omega) (by omega) (by omega)]
    refine ⟨a1, ?_, a3⟩
    rw [a2]
    rcases v.2.2.2.2.2.2.2.1 q l0 l1 with y | ⟨y, -⟩
    · rw [if_pos y, if_pos y]
    · rw [if_neg (by omega), if_neg (by omega), eK _ (by omega)]
  · rw [H0] at p1 q1
    rw [eP, eP]; exact h7 p q p0 p1 q0 q1
  · rw [dPc_0] at p1 q1
    intro hpq
    by_cases cp : p = d 0 1
    · rw [cp, eN, eK q (by omega)]
      exact fun y => nd q q0 (by omega) y.symm
    · by_cases cq : q = d 0 1
      · rw [cq, eN, eK p cp]; exact nd p p0 (by omega)
      · rw [eK p cp, eK q cq]; exact h8 p q p0 (by omega) q0 (by omega) hpq
  · rw [H2] at p1 q1
    rw [eL, eL]; exact h9 p q p0 p1 q0 q1
end jLadd
