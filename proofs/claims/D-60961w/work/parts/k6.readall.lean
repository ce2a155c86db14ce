/-! the linker: units are read on both sides -/
set_option maxRecDepth 100000
section jReadAll
variable {s t u w r q' : jS} {a b k m p v l n x y c j X f z i H C P Q P' Q' S : Int} {O : Int → Int → Int → Int → Int} {G : Int → Int → Int} {N : Int → Int} {R R' : Type} {QQ : R → R' → Prop}
abbrev sIn (S u : Int) : Prop := ¬ I_and (I_shr S u) 1 = 0
noncomputable def nIn (S : Int) : Nat → Int
  | 0 => 0
  | n + 1 => nIn S n + if sIn S n then 1 else 0
theorem nIn_lo : ∀ n : Nat, 0 ≤ nIn S n ∧ nIn S n ≤ n
  | 0 => ⟨Int.le_refl _, Int.le_refl _⟩
  | n + 1 => by
    have := nIn_lo n
    show 0 ≤ nIn S n + _ ∧ nIn S n + _ ≤ _
    split <;> omega
theorem nIn_s (x0 : 0 ≤ x) : nIn S (x + 1).toNat = nIn S x.toNat + if sIn S x then 1 else 0 := by
  rw [show (x + 1).toNat = x.toNat + 1 by omega]
  show nIn S x.toNat + (if sIn S ((x.toNat : Nat) : Int) then 1 else 0) = _
  rw [show ((x.toNat : Nat) : Int) = x by omega]
theorem nIn_mono : ∀ (m : Nat) (k : Nat), nIn S k ≤ nIn S (k + m)
  | 0, _ => Int.le_refl _
  | m + 1, k => by
    have := nIn_mono m k
    show _ ≤ nIn S (k + m) + (if sIn S ((k + m : Nat) : Int) then 1 else 0)
    split <;> omega
theorem nIn_lt {v x : Int} (h : sIn S v) (v0 : 0 ≤ v) (hx : v < x) : nIn S v.toNat < nIn S x.toNat := by
  have h1 := nIn_s (S := S) v0
  rw [if_pos h] at h1
  have h2 := nIn_mono (S := S) (x.toNat - (v + 1).toNat) (v + 1).toNat
  rw [show (v + 1).toNat + (x.toNat - (v + 1).toNat) = x.toNat by omega] at h2
  omega
/-- the units that were read, in both -/
def rdUn (C H S : Int) (O : Int → Int → Int → Int → Int) (s t : jS) (n : Int) : Prop := ∀ v, 0 ≤ v → v < n → sIn S v → cOb s (fAt C v + 614) (O v) ∧ tUn t H v (O v) ∧ vOb (O v) ∧ gOb (O v)
def ordR (C S : Int) (s : jS) (n : Int) : Prop := jf s 39 (C + 4275) 5 = nIn S n.toNat ∧ ∀ v, 0 ≤ v → v < n → sIn S v → jf s 1000 (C + 4275 + 13) (nIn S v.toNat) = v
/-- only what reading writes: the twin -/
def tRd (H : Int) (t q : jS) : Prop := jSm t q ∧ ∀ c a k, ¬ (H + 25 ≤ a ∧ a < H + 59) → ¬ (H + 170 ≤ a ∧ a ≤ H + 188) → jf q c a k = jf t c a k
theorem tRd.trans (h : tRd H t u) (g : tRd H u w) : tRd H t w := ⟨h.1.trans g.1, fun c a k q1 q2 => (g.2 c a k q1 q2).trans (h.2 c a k q1 q2)⟩
theorem tRd.lf (h : tRd H t u) : tLF H t u := ⟨h.1, fun c a k _ q2 _ q4 => h.2 c a k q2 (by omega)⟩
theorem jGw.shrink {A B : Int → Prop} (h : jGw s t P Q A) (F : ∀ c a k, a < jn s → A a → ¬ B a → jf t c a k = jf s c a k) : jGw s t P Q B := ⟨h.1, h.2.1, fun c a k ha hb => by
  by_cases hA : A a
  · exact F c a k ha hA hb
  · exact h.2.2 c a k ha hA⟩
theorem fB.lf (h : fB s (fAt C x + 1229) (G x) n) (x0 : 0 ≤ x) (x1 : x < 6) (C0 : 0 ≤ C) (hC : C + 15464 ≤ jn s) (g : cLF C s u P Q) (e : jEx s u) (h70 : ∀ a, C ≤ a → a < C + 15464 → jK s a < 3000 ∧ ¬ (70 ≤ jK s a ∧ jK s a ≤ 77)) : fB u (fAt C x + 1229) (G x) n := by
  refine h.kp (fun c a k a0 a1 => g.1.2.2 c a k (by unfold fAt at a1; omega) fun z => ?_) (g.1.N (by unfold fAt; omega)) e
  have h7 := h70 a (by unfold fAt at a0; omega) (by unfold fAt at a1; omega)
  unfold lkA fAt at z
  unfold fAt at a0 a1
  rcases z with ⟨v, v0, v1, z⟩ | z | z | z
  · omega
  · omega
  · omega
  · exact h7.2 z
/-- what does not change while linking -/
def lkSt (C H : Int) (s : jS) (G : Int → Int → Int) (N : Int → Int) (t : jS) : Prop := (0 ≤ C ∧ C + 15464 ≤ jn s) ∧ (∀ a, C ≤ a → a < C + 15464 → jK s a < 3000 ∧ ¬ (70 ≤ jK s a ∧ jK s a ≤ 77)) ∧ (∀ x, 0 ≤ x → x < 6 → fB s (fAt C x + 1229) (G x) (N x) ∧ jf t 1000 (H + 2) x = N x ∧ fRow t (H + 1) (8192 * x) (G x) (N x)) ∧ oLn s C ∧ pCon s ∧ jTt s 17 C
theorem lkA_in (h0 : 0 ≤ C) (hK : ∀ a, C ≤ a → a < C + 15464 → jK s a < 3000 ∧ ¬ (70 ≤ jK s a ∧ jK s a ≤ 77)) (h : lkA C s a) : jK s a < 3000 := by
  unfold lkA fAt at h
  rcases h with ⟨v, v0, v1, z⟩ | z | z | z
  · exact (hK a (by omega) (by omega)).1
  · exact (hK a (by omega) (by omega)).1
  · exact (hK a (by omega) (by omega)).1
  · omega
theorem isOb_in {b : Int} (h : isOb C b) : C + 276 ≤ b ∧ b + 1858 ≤ C + 15464 := by
  unfold isOb fAt at h
  rcases h with z | z | ⟨v, v0, v1, z⟩ <;> omega
theorem lkSt.lf (h : lkSt C H s G N t) (g : cLF C s u P Q) (e : jEx s u) (F : ∀ c a k, ¬ (H + 25 ≤ a ∧ a < H + 59) → ¬ (H + 170 ≤ a ∧ a ≤ H + 188) → jf w c a k = jf t c a k) : lkSt C H u G N w := by
  obtain ⟨⟨h1, h2⟩, h3, h4, h5, h6, h7⟩ := h
  have hn := g.1.n
  refine ⟨⟨h1, by omega⟩, fun a a0 a1 => by rw [g.1.K (by omega)]; exact h3 a a0 a1, fun x x0 x1 => ?_, fun b hb => ?_, h6.keep g.1 fun a ha => lkA_in h1 h3 ha, h7.ext e⟩
  · obtain ⟨b1, b2, b3⟩ := h4 x x0 x1
    exact ⟨b1.lf x0 x1 h1 h2 g e h3, by rw [F _ _ _ (by omega) (by omega)]; exact b2, fun k k0 k1 => by rw [F _ _ _ (by omega) (by omega)]; exact b3 k k0 k1⟩
  · have hi := isOb_in hb
    obtain ⟨b1, b2, b3⟩ := h5 b hb
    exact ⟨fun x x0 x1 => by rw [g.1.N (by omega)]; exact b1 x x0 x1, fun x x0 x1 => by rw [g.1.N (by omega)]; exact b2 x x0 x1, fun x x0 x1 => by rw [g.1.N (by omega)]; exact b3 x x0 x1⟩
/-- what was read stays -/
theorem rdUn.lf (h : rdUn C H S O s t n) (hn : n ≤ 6) (hC : 0 ≤ C ∧ C + 15464 ≤ jn s) (F : ∀ v, 0 ≤ v → v < n → ∀ c a k, fAt C v + 614 ≤ a → a < fAt C v + 1227 → jf u c a k = jf s c a k) (FN : ∀ a, a < jn s → jN u a = jN s a) (F' : ∀ v, 0 ≤ v → v < n → ∀ c a k, uPl H v a k → jf w c a k = jf t c a k) : rdUn C H S O u w n := fun v v0 v1 hv => by
  obtain ⟨h1, h2, h3, h4⟩ := h v v0 v1 hv
  exact ⟨h1.keep (fun a a0 a1 => FN a (by unfold fAt at a1; omega)) (fun c a k a0 a1 => F v v0 v1 c a k (by omega) (by omega)) h3.2.2.1, h2.cg h3 (F' v v0 v1), h3, h4⟩
/-- reading a unit's file keeps to what linking may write -/
theorem rd_lf (x0 : 0 ≤ x) (x1 : x < 6) (hC : 0 ≤ C ∧ C + 15464 ≤ jn s) (g : jGw s r P Q (fun a => fAt C x ≤ a ∧ a < fAt C x + 1858)) (F : ∀ c a k, ¬ a = jn s → fAt C x + 1 ≤ a ∧ a < fAt C x + 614 ∨ fAt C x + 1227 ≤ a ∧ a < fAt C x + 1239 → jf r c a k = jf s c a k) : cLF C s r P Q := by
  refine ⟨g.shrink fun c a k ha hA hB => F c a k (by omega) ?_, fun c a k q => g.2.2 c a k (by omega) fun z => by unfold fAt at z; omega, fun q => q.cg g.n (fun y hy => g.K hy) fun c a k z => g.2.2 c a k (by omega) fun z' => by unfold fAt at z'; omega⟩
  have : ¬ (a = fAt C x ∨ fAt C x + 614 ≤ a ∧ a < fAt C x + 1227 ∨ fAt C x + 1239 ≤ a ∧ a < fAt C x + 1858) := fun z => hB (.inl ⟨x, x0, x1, z⟩)
  omega
def rdJ (C H S : Int) (O : Int → Int → Int → Int → Int) (s t : jS) (n : Int) (u w : jS) : Prop := (cLF C s u n (6 * n) ∧ jEx s u) ∧ ordR C S u n ∧ rdUn C H S O u w n ∧ tRd H t w ∧ pTi w (H + 25) ∧ jf u 39 (C + 4275) 33 = jf s 39 (C + 4275) 33
theorem x_readAll (hS : lkSt C H s G N t) (hb : jBd s 12 72) (hO : ∀ x, O x = oR (G x)) (hI : pTi t (H + 25)) (ht : jf t 41 H 99 = 0) (hs : jf t 41 H 107 = S) : jE2 (m_X35_readAll s (C + 4275) S) (m_X37_readUnits t H) fun r q => (r.2.1 = false ∧ q.2 = 1 ∧ rdJ C H S O s t 6 r.1 q.1) ∨ lkF C H s t 12 72 r q := by
  obtain ⟨⟨C0, C1⟩, -⟩ := id hS
  rw [em_X35_readAll, em_X37_readUnits]; unfold dm_X35_readAll dm_X37_readUnits
  obtain ⟨s1, E_s1⟩ : ∃ s1, s1 = jp s 39 (C + 4275) 5 0 := ⟨_, rfl⟩
  obtain ⟨f_s1, p_s1, -⟩ := jpF E_s1
  rw [jls_e, ← E_s1]
  rw [eu_X35_readAll_7, eu_X37_readUnits_2]; unfold du_X35_readAll_7 du_X37_readUnits_2
  have L1 : cLF C s s1 0 0 := by rw [E_s1]; exact cLF.rfl.jp (by omega) (by omega)
  refine jforE (fun n u w => rdJ C H S O s t n u w) (fun n => [C + 4275, S, n]) (fun n => [H, n]) 0 6 (by decide) ⟨⟨L1, by rw [E_s1]; exact jEx.rfl.jp rfl⟩, ⟨p_s1, fun v v0 v1 => by omega⟩, fun v v0 v1 => by omega, ⟨jSm.rfl, fun _ _ _ _ _ => rfl⟩, hI, f_s1 _ _ _ (by omega)⟩ (fun x u w x0 x1 ⟨⟨e1, e2⟩, ⟨e3, e4⟩, e5, e6, e7, e8⟩ => ?_) (fun u w hj => ?_)
  rotate_left
  · refine ⟨some (u, false, 0), some (w, Wz 1), ?_, ?_, jE2_some.mpr (.inl ⟨rfl, Wz_1, hj⟩)⟩
    · show b_X35_readAll_7 u (C + 4275) S 6 = _
      unfold b_X35_readAll_7
      rw [if_neg (by decide)]
    · show b_X37_readUnits_2 w H 6 = _
      unfold b_X37_readUnits_2
      rw [if_neg (by decide)]
  have hS' : lkSt C H u G N w := hS.lf e1 e2 e6.2
  have w99 : jf w 41 H 99 = 0 := by rw [e6.2 _ _ _ (by omega) (by omega)]; exact ht
  have w107 : jf w 41 H 107 = S := by rw [e6.2 _ _ _ (by omega) (by omega)]; exact hs
  have g1 := e1.1.1
  have tin : m_X37_isIn w H x = some (if sIn S x then 1 else 0) := by
    rw [e_X37_isIn, w107]
    have := I_and_1 (I_shr S x)
    by_cases c : I_and (I_shr S x) 1 = 1
    · rw [if_pos c, if_pos (show sIn S x by omega)]
    · rw [if_neg c, if_neg (show ¬ sIn S x by omega)]
  have hn1 := nIn_lo (S := S) x.toNat
  by_cases hx : sIn S x
  rotate_left
  · refine .inl ⟨u, w, ?_, ?_, ⟨e1.mono (by omega) (by omega), e2⟩, ⟨by rw [nIn_s x0, if_neg hx, Int.add_zero]; exact e3, fun v v0 v1 hv => ?_⟩, fun v v0 v1 hv => ?_, e6, e7, e8⟩
    · show b_X35_readAll_7 u (C + 4275) S x = _
      unfold b_X35_readAll_7
      rw [if_pos x1, if_pos (Decidable.not_not.mp hx), eu_X35_readAll_86]; unfold du_X35_readAll_86
      rw [W32_in (by omega) (by omega)]
    · show b_X37_readUnits_2 w H x = _
      unfold b_X37_readUnits_2
      rw [if_pos x1, tin, if_neg hx, Option.bind_some, if_pos rfl, eu_X37_readUnits_70]; unfold du_X37_readUnits_70
      rw [W32_in (by omega) (by omega)]
    · have : ¬ v = x := fun z => hx (by rw [← z]; exact hv)
      exact e4 v v0 (by omega) hv
    · have : ¬ v = x := fun z => hx (by rw [← z]; exact hv)
      exact e5 v v0 (by omega) hv
  obtain ⟨⟨-, hCn⟩, hKd, hF, hL, hP, hT⟩ := id hS'
  obtain ⟨hb1, hb2, hb3⟩ := hF x x0 x1
  obtain ⟨-, -, -, -, -, -, -, -, -, hTu⟩ := T17 hT
  obtain ⟨hL1, hL2, hL3⟩ := hL (fAt C x) (.inr (.inr ⟨x, x0, x1, rfl⟩))
  have eA : C + 4275 + -4000 + 4041 + 1858 * x = fAt C x := by unfold fAt; omega
  have hbu : jBd u (12 - x) (72 - 6 * x) := by
    have := (show jBd s (x + (12 - x)) (6 * x + (72 - 6 * x)) by rw [show x + (12 - x) = 12 by omega, show 6 * x + (72 - 6 * x) = 72 by omega]; exact hb)
    exact this.gw e1.1
  have hjn : 0 ≤ jn u := by omega
  have c0 : b_X35_readAll_7 u (C + 4275) S x = if N x = 0 then jinr (u_X35_readAll_36 u (C + 4275) x) else (m_X13_read u (fAt C x)).bind fun q4 => if q4.2 = 0 then (jst q4.1 1000 (C + 4275 + 13) 6 (jf q4.1 39 (C + 4275) 5) x).bind fun s5 => jls (jp s5 39 (C + 4275) 5 (W32 ((jf s5 39 (C + 4275) 5) + 1))) fun s6 => u_X35_readAll_86 s6 (C + 4275) S x else jinr (u_X35_readAll_58 q4.1 (C + 4275) x q4.2) := by
    unfold b_X35_readAll_7
    rw [if_pos x1, if_neg hx, jix_in x0 x1, Option.bind_some, eA, c_fsize hb1, Option.bind_some, Option.bind_some]
  have d0 : b_X37_readUnits_2 w H x = if N x = 0 then jinr (u_X37_readUnits_28 w H x) else (m_X37_give w H (H + 25) x).bind fun q3 => (m_X40_read q3.1 (H + 25)).bind fun q4 => if q4.2 = 0 then (m_X37_keepUnit q4.1 H x).bind fun q5 => u_X37_readUnits_70 q5.1 H x else jinr (u_X37_readUnits_57 q4.1 H x q4.2) := by
    unfold b_X37_readUnits_2
    rw [if_pos x1, tin, if_pos hx, Option.bind_some, if_neg n10, jlt_in x0 x1, Option.bind_some, hb2]
  by_cases cN : N x = 0
  · refine .inr ⟨_, _, by show b_X35_readAll_7 u (C + 4275) S x = _; rw [c0, if_pos cN], by show b_X37_readUnits_2 w H x = _; rw [d0, if_pos cN], ?_⟩
    rw [eu_X35_readAll_36, eu_X37_readUnits_28]; unfold du_X35_readAll_36 du_X37_readUnits_28
    refine jE2_mono (lkF.mk hjn (by unfold jBd at *; omega) (by omega) w99 (by decide) x (-1)) fun r q h => .inr ((h.pre e1 e6.lf).mono (by omega) (by omega))
  · obtain ⟨l0, l1, -, -⟩ := hb1.len
    obtain ⟨y1, ey1, w1, w2, w3⟩ := T_give (g := G x) (n := N x) (x := x) (T := H) (t := w) (X := H + 25) hb2 hb3 l0 l1 x0 x1 (by omega)
    obtain ⟨-, -, -, -, -, -, hT41, -⟩ := T33 (hTu x x0 x1)
    have C1' : rC u (fAt C x + 1239) (fAt C x + 1229) (G x) (N x) := ⟨hb1, .inl (by omega), ⟨hjn, by unfold jBd at *; omega⟩, hT41⟩
    have I1 : pTi y1.1 (H + 25) := e7.keep fun a k ha => w1.2 _ _ _ (by omega) (by omega)
    obtain ⟨r, er, q, eq, ⟨r1, r2, ⟨⟨r3, r4⟩, r5⟩, r6, r7⟩, r8⟩ := o_read3 (O := fAt C x) (X := H + 25) C1' hP hL3 hL2 (hT41.fld (k := 7) (o := 3) (by decide)).2 ⟨w3, hb1.by, l0, l1, w2, I1⟩
    have LR : cLF C u r.1 1 6 := rd_lf x0 x1 ⟨C0, hCn⟩ r3 r5
    have TR : tRd H w q.1 := ⟨w1.1.trans r6.1, fun c a k q1 q2 => by rw [r6.2 c a k (by omega) (by omega) (by unfold rD; omega), w1.2 _ _ _ (by omega) (by omega)]⟩
    have hI2 : pTi q.1 (H + 25) := I1.keep fun a k ha => r6.2 _ _ _ (by omega) (by omega) (by unfold rD; omega)
    have hbr : jBd r.1 1 6 := by
      have h12 : jBd u (1 + 1) (6 + 6) := by unfold jBd at *; omega
      exact h12.gw LR.1
    have hjr := LR.1.n
    have r5' : jf r.1 39 (C + 4275) 5 = nIn S x.toNat := by rw [r3.2.2 _ _ _ (by omega) (by unfold fAt; omega)]; exact e3
    by_cases cr : r.2 = 0
    · rcases r7 with ⟨-, y2, y3, y4⟩ | ⟨z, -⟩
      rotate_left
      · exact absurd cr z
      have y5 := r8 cr
      obtain ⟨w', ek, k1, k2⟩ := t_keepUnit y3 y4 y5 x0 x1
      obtain ⟨v1, V1⟩ : ∃ v1, v1 = jp r.1 1000 (C + 4275 + 13) (nIn S x.toNat) x := ⟨_, rfl⟩
      obtain ⟨f1, p1, -⟩ := jpF V1
      obtain ⟨v2, V2⟩ : ∃ v2, v2 = jp v1 39 (C + 4275) 5 (nIn S x.toNat + 1) := ⟨_, rfl⟩
      obtain ⟨f2, p2, -⟩ := jpF V2
      have Lv : cLF C u v2 1 6 := by rw [V2, V1]; exact (LR.jp (by omega) (by omega)).jp (by omega) (by omega)
      have FR : ∀ c a k, ¬ (c = 1000 ∧ a = C + 4275 + 13) → ¬ (c = 39 ∧ a = C + 4275) → jf v2 c a k = jf r.1 c a k := fun c a k q1 q2 => by rw [f2 _ _ _ (by omega), f1 _ _ _ (by omega)]
      have sm : jSm r.1 v2 := (jSm.rfl.wr V1).wr V2
      refine .inl ⟨v2, w', ?_, ?_, ⟨(e1.trans Lv).mono (by omega) (by omega), by rw [V2, V1]; exact ((e2.trans r4).jp rfl).jp rfl⟩, ⟨by rw [nIn_s x0, if_pos hx]; exact p2, fun v v0 v1' hv => ?_⟩, fun v v0 v1' hv => ?_, (e6.trans TR).trans ⟨k1.1, fun c a k q1 q2 => k1.2 c a k fun z => by have := z.2; unfold uPl at this; omega⟩, hI2.keep fun a k ha => k1.2 _ _ _ fun z => by have := z.2; unfold uPl at this; omega, by rw [f2 _ _ _ (by omega), f1 _ _ _ (by omega), r3.2.2 _ _ _ (by omega) (by unfold fAt; omega)]; exact e8⟩
      · show b_X35_readAll_7 u (C + 4275) S x = _
        rw [c0, if_neg cN, er, Option.bind_some, if_pos cr, r5', jst_in hn1.1 (by omega), Option.bind_some, ← V1, f1 _ _ _ (by omega), r5', W32_in (by omega) (by omega), jls_e, ← V2, eu_X35_readAll_86]; unfold du_X35_readAll_86
        rw [W32_in (by omega) (by omega)]
      · show b_X37_readUnits_2 w H x = _
        rw [d0, if_neg cN, ey1, Option.bind_some, eq, Option.bind_some, if_pos (by omega), ek, Option.bind_some, eu_X37_readUnits_70]; unfold du_X37_readUnits_70
        rw [W32_in (by omega) (by omega)]
      · rw [f2 _ _ _ (by omega)]
        by_cases cv : v = x
        · rw [cv]; exact p1
        · have := nIn_lt hv v0 (show v < x by omega)
          rw [f1 _ _ _ (by omega), r3.2.2 _ _ _ (by omega) (by unfold fAt; omega)]
          exact e4 v v0 (by omega) hv
      · by_cases cv : v = x
        · rw [cv, hO x]
          exact ⟨y2.keep (fun a _ _ => by rw [sm.2.1]) (fun c a k a0 a1 => FR _ _ _ (by unfold fAt at a1; omega) (by unfold fAt at a1; omega)) y4.2.2.1, k2, y4, y5⟩
        · obtain ⟨z1, z2, z3, z4⟩ := e5 v v0 (by omega) hv
          refine ⟨z1.keep (fun a a0 a1 => by rw [sm.2.1]; exact LR.1.N (by unfold fAt at a1; omega)) (fun c a k a0 a1 => ?_) z3.2.2.1, (z2.cg z3 fun c a k q => ?_).other z3 k1 cv, z3, z4⟩
          · rw [FR _ _ _ (by unfold fAt at a0 a1; omega) (by unfold fAt at a0 a1; omega)]
            exact r3.2.2 _ _ _ (by unfold fAt at a1; omega) (by unfold fAt at *; omega)
          · have : H + 170 ≤ a ∧ a ≤ H + 188 := by unfold uPl at q; omega
            rw [r6.2 _ _ _ (by omega) (by omega) (by unfold rD; omega), w1.2 _ _ _ (by omega) (by omega)]
    · refine .inr ⟨_, _, by show b_X35_readAll_7 u (C + 4275) S x = _; rw [c0, if_neg cN, er, Option.bind_some, if_neg cr], by show b_X37_readUnits_2 w H x = _; rw [d0, if_neg cN, ey1, Option.bind_some, eq, Option.bind_some, if_neg (by omega)], ?_⟩
      rw [eu_X35_readAll_58, eu_X37_readUnits_57, ← r1]; unfold du_X35_readAll_58 du_X37_readUnits_57
      have q99 : jf q.1 41 H 99 = 0 := by rw [TR.2 _ _ _ (by omega) (by omega)]; exact w99
      refine jE2_mono (lkF.mk (by omega) hbr (by omega) q99 (by decide) x r.2) fun r q h => .inr ((h.pre (e1.trans LR) (e6.trans TR).lf).mono (by omega) (by omega))
end jReadAll
