/-! a name's hash is asked for *-/
set_option maxRecDepth 100000
section jHash
variable {s t u v w : jS} {A H b lo W k c a hh x y m f d : Int} {l : List Int} {NL : List (List Int)} {I : pI} {OL : List pvO} {SL : List pvS} {z : pvS} {q : jS × Bool × Int} {r : jS} {Q Q' : jS → jS → Int → Prop} {X Y X' Y' : Int}
/-- only a string's two cells differ -/
def hsW (a : Int) (s u : jS) : Prop := jSm s u ∧ jK s a = 9 ∧ ∀ c b k, ¬ (c = 9 ∧ b = a ∧ (k = 2 ∨ k = 3)) → jf u c b k = jf s c b k
theorem hsW.F (h : hsW a s u) (hk : ¬ (jK s y = 9 ∧ y = a ∧ (k = 2 ∨ k = 3))) : jF u y k = jF s y k := by
  unfold jF
  rw [h.1.1]
  exact h.2.2 _ _ _ hk
theorem hsW.sg (h : hsW a s u) (g : pSg s y l) : pSg u y l ∧ jF u y 0 = jF s y 0 := by
  obtain ⟨⟨g1, g2, g3⟩, g4, ⟨g5, g6, g7⟩, g8, g9, g10⟩ := g
  have e0 : jF u y 0 = jF s y 0 := h.F (by omega)
  have e1 : jF u y 1 = jF s y 1 := h.F (by omega)
  obtain ⟨m1, m2, m3, -⟩ := h.1
  refine ⟨⟨⟨g1, by rw [m3]; exact g2, by rw [m1]; exact g3⟩, by rw [e1]; exact g4, by rw [e0, m3, m1]; exact ⟨g5, g6, g7⟩, by rw [e0, m2]; exact g8, g9, ?_⟩, e0⟩
  rw [e0]
  intro i hi
  rw [h.F (by omega)]
  exact g10 i hi
theorem pFA.c9 {f : Int} {d : Nat × Int × List Int} (h : pFA s f d) (sm : jSm s u) (F : ∀ c a k, ¬ c = 9 → jf u c a k = jf s c a k) : pFA u f d := by
  obtain ⟨f0, f1, f2, h⟩ := h
  have hd : d.1 = 4 ∨ d.1 = 5 ∨ d.1 = 6 ∨ d.1 = 12 ∨ d.1 = 14 := by
    rcases h with h | h | h
    · exact .inl h.1
    · exact .inr (.inl h.1)
    · exact .inr (.inr h.1)
  have e : ∀ k, jf u d.1 f k = jf s d.1 f k := fun k => F _ _ _ (by omega)
  refine ⟨f0, by rw [sm.2.2.1]; exact f1, by rw [sm.1]; exact f2, ?_⟩
  rcases h with h | h | ⟨c, h1, h2, h3, h4, h5⟩
  · refine .inl ⟨h.1, ?_, ?_⟩
    · rw [F _ _ _ (by omega)]; exact h.2.1
    · rw [F _ _ _ (by omega)]; exact h.2.2
  · refine .inr (.inl ⟨h.1, ?_⟩)
    rw [F _ _ _ (by omega)]; exact h.2
  · refine .inr (.inr ⟨c, by rw [e]; exact h1, by rw [e]; exact h2, by rw [e, sm.1]; exact h3, by rw [e, sm.2.1]; exact h4, fun i hi => ?_⟩)
    rw [e, F _ _ _ (by omega)]; exact h5 i hi
theorem pWd.c9 (h : pWd s W) (sm : jSm s u) (F : ∀ c a k, ¬ c = 9 → jf u c a k = jf s c a k) : pWd u W := by
  obtain ⟨h1, h2⟩ := h
  have e8 : ∀ k, jf u 1008 (W + 23) k = jf s 1008 (W + 23) k := fun k => F _ _ _ (by omega)
  have e11 : ∀ a k, jf u 11 a k = jf s 11 a k := fun a k => F _ _ _ (by omega)
  have e7 : ∀ a k, jf u 1007 a k = jf s 1007 a k := fun a k => F _ _ _ (by omega)
  have e13 : ∀ a k, jf u 13 a k = jf s 13 a k := fun a k => F _ _ _ (by omega)
  constructor
  · intro k hk
    obtain ⟨a1, a2, a3, a4, a5, a6, a7, a8, a9, a10⟩ := h1 k hk
    unfold pKA
    rw [e8]
    simp only [e11, e7, e13]
    refine ⟨⟨a1.1, by rw [sm.2.2.1]; exact a1.2.1, by rw [sm.1]; exact a1.2.2.1, fun q => absurd q (by decide)⟩, a2, a3, a4, a5, a6, by rw [sm.1]; exact a7, by rw [sm.2.1]; exact a8, fun e he => ?_, fun q => ?_⟩
    · obtain ⟨b1, b2⟩ := a9 e he
      exact ⟨b1, fun c => (b2 c).c9 sm F⟩
    · obtain ⟨c1, c2, c3⟩ := a10 q
      exact ⟨c1, by rw [sm.1]; exact c2, c3⟩
  · intro k hk e he c
    have hz := h2 k hk e he c
    rw [e8, e11, e7, F _ _ _ (by omega)]; exact hz
theorem pWl.c9 (h : pWl s W hh) (sm : jSm s u) (F : ∀ c a k, ¬ c = 9 → jf u c a k = jf s c a k) : pWl u W hh := by
  obtain ⟨n0, n1, n9, nk, n2⟩ := h
  have e8 : ∀ k, jf u 1008 (W + 23) k = jf s 1008 (W + 23) k := fun k => F _ _ _ (by omega)
  have e11 : ∀ a k, jf u 11 a k = jf s 11 a k := fun a k => F _ _ _ (by omega)
  have e7 : ∀ a k, jf u 1007 a k = jf s 1007 a k := fun a k => F _ _ _ (by omega)
  refine ⟨n0, n1, by rw [sm.2.2.1]; exact n9, by rw [sm.1]; exact nk, fun k hk => ?_⟩
  obtain ⟨b0, b1, b2, b3, b4⟩ := n2 k hk
  simp only [e8, e11, e7]
  have jcs : jc u = jc s := sm.2.2.2.2.2.2
  refine ⟨b0, by rw [jcs]; exact b1, b2, b3, fun e he c => ?_⟩
  obtain ⟨d1, d2⟩ := b4 e he c
  refine ⟨d1, fun q => ?_⟩
  rw [F _ _ _ (by omega)]; exact d2 q
/-- the book stays, but for the hash -/
theorem bkP.hs (h : bkP s b lo NL I OL SL) (g : hsW a s u) (ga : pSg s a l) (gh : pHs u a l) : bkP u b lo NL I OL SL := by
  obtain ⟨B, N, hI, hO, s1, s2, s3⟩ := h
  have F : ∀ c y j, ¬ c = 9 → jf u c y j = jf s c y j := fun c y j hc => g.2.2 _ _ _ (by omega)
  obtain ⟨m1, m2, m3, -⟩ := g.1
  have bk : bkI u b := by
    unfold bkI at B ⊢
    simp only [F 16 _ _ (by decide), m1, m2, m3]
    exact B
  refine ⟨bk, ⟨by rw [F _ _ _ (by omega)]; exact N.1, N.2.1, fun i hi => ?_⟩, ⟨by rw [F _ _ _ (by omega)]; exact hI.1, fun i hi => by rw [F _ _ _ (by omega), F _ _ _ (by omega)]; exact hI.2 i hi⟩, ⟨by rw [F _ _ _ (by omega)]; exact hO.1, hO.2.1, fun i hi => ?_⟩, by rw [F _ _ _ (by omega)]; exact s1, s2, fun i hi => ?_⟩
  · rw [F _ _ _ (by omega)]
    obtain ⟨⟨t1, t2, ⟨t3, t4⟩, t5⟩, h9⟩ := N.2.2 i hi
    obtain ⟨p1, p2⟩ := g.sg t1
    refine ⟨⟨p1, by rw [m1]; exact t2, ?_, by rw [p2]; exact t5⟩, h9⟩
    by_cases ca : jf s 1026 (b + 5) i = a
    · rw [ca] at t1 ⊢
      rw [t1.uni ga]; exact gh
    · refine ⟨?_, ?_⟩
      · rw [g.F (by omega)]; exact t3
      · rw [g.F (by omega)]; exact t4
  · rw [F _ _ _ (by omega)]
    obtain ⟨⟨h0, h1, h2⟩, h3, h4, h5⟩ := hO.2.2 i hi
    have G : ∀ j, jf u 63 (jf s 1024 (b + 2) i) j = jf s 63 (jf s 1024 (b + 2) i) j := fun j => F _ _ _ (by omega)
    obtain ⟨p1, p2⟩ := g.sg h4
    exact ⟨⟨h0, by rw [m3]; exact h1, by rw [m1]; exact h2⟩, by rw [G, G, G, G, G, G]; exact h3, by rw [G]; exact p1, by rw [G, p2, m1]; exact h5⟩
  · rw [F _ _ _ (by omega)]
    obtain ⟨⟨h0, h1, h2⟩, h3⟩ := s3 i hi
    unfold stC
    simp only [F 62 _ _ (by decide), m1, m3]
    exact ⟨⟨h0, h1, h2⟩, h3⟩
/-- the assembler's own cells, told outside -/
abbrev oRg (A z : Int) : Prop := A ≤ z ∧ z ≤ A + 126 ∨ z = A + (-4147) + 24 ∨ z = A + (-4147) + 25
/-- strings stay, and their hashes stay good -/
def haK (A : Int) (s u : jS) : Prop := (∀ z, oRg A z → z < jn s ∧ jK s z < 3000 ∧ ¬ jK s z = 9) → ∀ z l, jK s z = 9 → pSg s z l → ¬ oRg A (jF s z 0) → (pSg u z l ∧ jF u z 0 = jF s z 0) ∧ (pHs s z l → pHs u z l)
/-- outside: strings' hashes too -/
def cFo (A : Int) (s u : jS) (X Y : Int) : Prop := (jGw s u X Y fun z => (A ≤ z ∧ z ≤ A + 126 ∨ z = A + (-4147) + 24 ∨ z = A + (-4147) + 25) ∨ jK s z = 9) ∧ haK A s u
theorem cFa.o (h : cFa A s u X Y) : cFo A s u X Y := by
  refine ⟨h.mono (Int.le_refl _) (Int.le_refl _) fun _ _ z => .inl z, fun hr z l hk hp hb => ?_⟩
  have nz : ¬ oRg A z := fun c => (hr z c).2.2 hk
  obtain ⟨p1, p2⟩ := hp.keep h nz hb
  refine ⟨⟨p1, p2⟩, fun hh => ?_⟩
  have F : ∀ j, jF u z j = jF s z j := fun j => h.F hp.1.2.1 nz j
  unfold pHs at hh ⊢
  rw [F, F]; exact hh
theorem cFo.trans (h : cFo A s u X Y) (k : cFo A u w X' Y') : cFo A s w (X + X') (Y + Y') := by
  refine ⟨jGw.trans h.1 k.1 fun a ha z => ?_, fun hr z l hk hp hb => ?_⟩
  · rcases z with z | z | z
    · exact z
    · exact .inl z
    · rw [h.1.K ha] at z; exact .inr z
  · obtain ⟨⟨p1, p2⟩, p3⟩ := h.2 hr z l hk hp hb
    have n := h.1.1.1
    obtain ⟨⟨q1, q2⟩, q3⟩ := k.2 (fun z hz => by
      obtain ⟨r1, r2, r3⟩ := hr z hz
      rw [h.1.K r1]
      exact ⟨by omega, r2, r3⟩) z l (by rw [h.1.K hp.1.2.1]; exact hk) p1 (by rw [p2]; exact hb)
    exact ⟨⟨q1, q2.trans p2⟩, fun hh => q3 (p3 hh)⟩
theorem hsW.gw (h : hsW a s u) (ga : pSg s a l) (gh : pHs u a l) : cFo A s u 0 0 := by
  have h' := h
  obtain ⟨⟨m1, m2, m3, m4, m5, m6, m7⟩, hk, hF⟩ := h
  refine ⟨⟨⟨by omega, by omega, by omega, m5, m6, m7⟩, fun z _ => ⟨by rw [m1], by rw [m2]⟩, fun c z k _ hz => hF c z k fun e => hz (.inr ?_)⟩, fun hr z m hz hp hb => ⟨h'.sg hp, fun hh => ?_⟩⟩
  · rw [e.2.1]; exact hk
  · by_cases ca : z = a
    · rw [ca] at hp ⊢
      rw [hp.uni ga]; exact gh
    · have F : ∀ j, jF u z j = jF s z j := fun j => h'.F (by omega)
      unfold pHs at hh ⊢
      rw [F, F]; exact hh
/-- a book stays -/
theorem bkP.fo (h : bkP u b lo NL I OL SL) (k : cFo A u w X Y) (hr : ∀ z, oRg A z → z < jn u ∧ jK u z < 3000 ∧ ¬ (jK u z = 9 ∨ jK u z = 62 ∨ jK u z = 63)) (hb : ∀ z, oRg A z → ¬ (b ≤ z ∧ z ≤ b + 5) ∧ z ≤ lo) : bkP w b lo NL I OL SL := by
  obtain ⟨k, hK⟩ := k
  have hK := hK fun z hz => by
    obtain ⟨r1, r2, r3⟩ := hr z hz
    exact ⟨r1, r2, fun c => r3 (.inl c)⟩
  obtain ⟨B, N, hI, hO, s1, s2, s3⟩ := h
  have hl := B.lt
  have hbk := B
  obtain ⟨⟨k0a, k0b, k0⟩, -, ⟨k1, -⟩, ⟨k2, -⟩, ⟨k3, -⟩, ⟨k4, -⟩, k5, -⟩ := hbk
  have nb : ∀ y, b ≤ y → y ≤ b + 5 → ¬ (oRg A y ∨ jK u y = 9) := fun y h1 h2 q => by
    rcases q with q | q
    · exact (hb y q).1 ⟨h1, h2⟩
    · have : y = b ∨ y = b + 1 ∨ y = b + 2 ∨ y = b + 3 ∨ y = b + 4 ∨ y = b + 5 := by omega
      rcases this with e | e | e | e | e | e <;> rw [e] at q <;> omega
  have F : ∀ c y j, b ≤ y → y ≤ b + 5 → jf w c y j = jf u c y j := fun c y j h1 h2 => k.2.2 _ _ _ (by omega) (nb y h1 h2)
  have nB : ∀ y l, pSg u y l → (lo < jF u y 0 ∨ jK u (jF u y 0) = 4001) → ¬ oRg A (jF u y 0) := fun y l hp hq c => by
    have := (hb _ c).2
    have := (hr _ c).2.1
    omega
  have pk : ∀ y l, pSg u y l → (lo < jF u y 0 ∨ jK u (jF u y 0) = 4001) → pSg w y l ∧ jF w y 0 = jF u y 0 := fun y l hp hl => by
    have nb' := nB y l hp hl
    by_cases c9 : jK u y = 9
    · exact (hK y l c9 hp nb').1
    · have c3 := hp.1.2.2
      have cb := hp.2.2.1.2.2
      refine hp.keep k (fun q => ?_) fun q => ?_
      · rcases q with q | q
        · have := (hr _ q).2.1; omega
        · exact c9 q
      · rcases q with q | q
        · exact nb' q
        · omega
  have B' : bkI w b := B.gw k fun z hz q => nb z q.1 q.2 hz
  refine ⟨B', ⟨by rw [F _ _ _ (by omega) (by omega)]; exact N.1, N.2.1, fun i hi => ?_⟩, ⟨by rw [F _ _ _ (by omega) (by omega)]; exact hI.1, fun i hi => by rw [F _ _ _ (by omega) (by omega), F _ _ _ (by omega) (by omega)]; exact hI.2 i hi⟩, ⟨by rw [F _ _ _ (by omega) (by omega)]; exact hO.1, hO.2.1, fun i hi => ?_⟩, by rw [F _ _ _ (by omega) (by omega)]; exact s1, s2, fun i hi => ?_⟩
  · rw [F _ _ _ (by omega) (by omega)]
    obtain ⟨⟨t1, t2, t3, t5⟩, h9⟩ := N.2.2 i hi
    obtain ⟨⟨p1, p2⟩, p3⟩ := hK _ _ t2 t1 (nB _ _ t1 (.inl t5))
    exact ⟨⟨p1, by rw [k.K t1.1.2.1]; exact t2, p3 t3, by rw [p2]; exact t5⟩, h9⟩
  · rw [F _ _ _ (by omega) (by omega)]
    obtain ⟨⟨h0, h1, h2⟩, h3, h4, h5⟩ := hO.2.2 i hi
    have ny : ¬ (oRg A (jf u 1024 (b + 2) i) ∨ jK u (jf u 1024 (b + 2) i) = 9) := fun z => by
      rcases z with z | z
      · have := (hr _ z).2.2; omega
      · omega
    have G : ∀ j, jf w 63 (jf u 1024 (b + 2) i) j = jf u 63 (jf u 1024 (b + 2) i) j := fun j => k.2.2 _ _ _ h1 ny
    obtain ⟨p1, p2⟩ := pk _ _ h4 h5
    have := k.1.1
    exact ⟨⟨h0, by omega, by rw [k.K h1]; exact h2⟩, by rw [G, G, G, G, G, G]; exact h3, by rw [G]; exact p1, by rw [G, p2, k.K h4.2.2.1.2.1]; exact h5⟩
  · rw [F _ _ _ (by omega) (by omega)]
    exact (s3 i hi).gw k fun z => by
      have := (s3 i hi).1.2.2
      rcases z with z | z
      · have := (hr _ z).2.2; omega
      · omega
/-- the name's string -/
theorem AR.nm (h : AR s t A H b lo NL I OL SL k z) (m0 : 0 ≤ m) (m1 : m < NL.length) : jf s 15 (A + (-3890)) 5 = b ∧ jrd s 16 b 4 = some (b + 5) ∧ jld s 1026 (b + 5) m = some (jf s 1026 (b + 5) m) ∧ pSg s (jf s 1026 (b + 5) m) (tNa NL m) ∧ jK s (jf s 1026 (b + 5) m) = 9 ∧ pHs s (jf s 1026 (b + 5) m) (tNa NL m) ∧ lts (tNa NL m) ∧ 1 ≤ (tNa NL m).length ∧ ∀ c ∈ tNa NL m, 36 ≤ c ∧ c ≤ 122 := by
  obtain ⟨e, B, N, -⟩ := h.1.1
  have gN := h.1.2.2.2.2.2.1
  obtain ⟨i, rfl, hm⟩ := nat_of m0
  have f4 := B.2.1.2.2.2.2
  have k4 := B.2.2.2.2.2.2
  have b0 := B.1
  obtain ⟨⟨q1, q2, q3, q4⟩, q5⟩ := N.2.2 i (by omega)
  have gd : nmGd (tNa NL (i : Int)) := gN _ (by
    unfold tNa
    rw [hm, List.getD_eq_getElem?_getD, List.getElem?_eq_getElem (by omega)]
    exact List.getElem_mem _)
  have et : tNa NL (i : Int) = NL.getD i [] := by unfold tNa; rw [hm]
  refine ⟨e, by rw [jrd_in b0.1 b0.2.2, f4], jld_i (by omega) k4.1 (by omega) (by omega), by rw [et]; exact q1, q2, by rw [et]; exact q3, ⟨gd.2.1, fun c hc => by have := gd.2.2 c hc; omega⟩, gd.1, gd.2.2⟩
/-- its hash -/
theorem hash2 (h : AG s t A H b lo NL I OL SL k z) (m0 : 0 ≤ m) (m1 : m < NL.length) : ∃ u, mp_J2_hashCode s (jf s 1026 (b + 5) m) = some (u, hs (tNa NL m)) ∧ hsW (jf s 1026 (b + 5) m) s u ∧ AG u t A H b lo NL I OL SL k z ∧ cFo A s u 0 0 ∧ pSg u (jf s 1026 (b + 5) m) (tNa NL m) := by
  obtain ⟨n1, n2, n3, n4, n5, n6, n7, n8, n9⟩ := h.1.nm m0 m1
  have l16 := n7.1
  obtain ⟨⟨u, d⟩, e1, e2, ⟨e3, e3', e4⟩, e5⟩ := s_hash n4 n5 n6 (by omega)
  have e2' : d = hs (tNa NL m) := e2
  subst e2'
  have hw : hsW (jf s 1026 (b + 5) m) s u := ⟨e3, n5, e4⟩
  have F : ∀ c a k, ¬ c = 9 → jf u c a k = jf s c a k := fun c a k hc => e4 _ _ _ (by omega)
  obtain ⟨⟨⟨c1, c2, c3, c4, c5, c6⟩, hT, hB, ⟨aS, aT, aI, aB, aM, aSt, aK, aH, a0⟩, hk⟩, ⟨g1, g2, g3, g4⟩, hN⟩ := h
  have sm : jSm s u := e3
  have sm' : jSm s u := e3
  obtain ⟨m1', m2', m3', m4', m5', m6', m7'⟩ := sm'
  refine ⟨u, e1, hw, ⟨⟨⟨⟨by rw [F _ _ _ (by omega)]; exact c1.1, c1.2.hs hw n4 e5⟩, ⟨c2.1.c9 sm F, c2.2.c9 sm F⟩, ?_, ?_, ?_, c6⟩, hT, ?_, ⟨aS.cg (fun c a j _ => F _ _ _ (by omega)) (fun c a j _ => rfl), aT.cg (fun c a j _ => F _ _ _ (by omega)) (fun c a j _ => rfl) (Int.le_refl _), aI, aB.cg (fun c a j _ => F _ _ _ (by omega)) (fun c a j _ => rfl), aM.cg (fun c a j _ => F _ _ _ (by omega)) (fun c a j _ => rfl), aSt.cg (fun c a j _ => F _ _ _ (by omega)) (fun c a j _ => rfl), aK.cg (fun c a j _ => F _ _ _ (by omega)) (fun c a j _ => rfl), aH.cg (fun c a j _ => F _ _ _ (by omega)) (fun c a j _ => rfl) (Int.le_refl _), a0⟩, hk⟩, ⟨by rw [F _ _ _ (by omega)]; exact g1, g2, by rw [F _ _ _ (by omega)]; exact g3, g4⟩, hN⟩, hw.gw n4 e5, (hw.sg n4).1⟩
  · refine c3.keep (p := 0) (q := 0) (A := fun z => z = jf s 1026 (b + 5) m) ⟨⟨by omega, by omega, by omega, m5', m6', m7'⟩, fun z _ => ⟨by rw [m1'], by rw [m2']⟩, fun c z k _ hz => e4 c z k fun e => hz e.2.1⟩ fun z hz => by rw [hz, n5]; decide
  · rw [m3', m1']; exact c4
  · exact fun z z0 z1 => by rw [m1']; exact c5 z z0 z1
  · exact ⟨by rw [m3', m5']; exact hB.1, by rw [m4', m6']; exact hB.2⟩
/-- a switch over strings -/
noncomputable def swC {β : Type} (s : jS) (x h : Int) (F : Int → Option β) : List (Int × Nat × Int) → Option β
  | [] => F (-1)
  | e :: L => if h = e.1 then (mp_J2_equals s x (jc s e.2.1)).bind fun v => if v = 0 then F (-1) else F e.2.2 else swC s x h F L
theorem swC_no {β : Type} {F : Int → Option β} : ∀ (L : List (Int × Nat × Int)), (∀ e ∈ L, mp_J2_equals s x (jc s e.2.1) = some (if l = cS e.2.1 then 1 else 0)) → (∀ e ∈ L, ¬ l = cS e.2.1) → swC s x y F L = F (-1)
  | [], _, _ => rfl
  | e :: L, h, g => by
    show (if y = e.1 then (mp_J2_equals s x (jc s e.2.1)).bind fun v => if v = 0 then F (-1) else F e.2.2 else swC s x y F L) = _
    by_cases c : y = e.1
    · rw [if_pos c, h e List.mem_cons_self, Option.bind_some, if_neg (g e List.mem_cons_self), if_pos rfl]
    · rw [if_neg c, swC_no L (fun e he => h e (List.mem_cons_of_mem _ he)) fun e he => g e (List.mem_cons_of_mem _ he)]
theorem swC_at {β : Type} {F : Int → Option β} {e0 : Int × Nat × Int} : ∀ (L : List (Int × Nat × Int)), (∀ e ∈ L, mp_J2_equals s x (jc s e.2.1) = some (if l = cS e.2.1 then 1 else 0)) → (∀ e ∈ L, e.1 = e0.1 → e = e0) → e0 ∈ L → l = cS e0.2.1 → swC s x e0.1 F L = F e0.2.2
  | e :: L, h, g, he, hl => by
    show (if e0.1 = e.1 then (mp_J2_equals s x (jc s e.2.1)).bind fun v => if v = 0 then F (-1) else F e.2.2 else swC s x e0.1 F L) = _
    by_cases c : e0.1 = e.1
    · have := g e List.mem_cons_self c.symm
      subst this
      rw [if_pos rfl, h e List.mem_cons_self, Option.bind_some, if_pos hl, if_neg (show ¬ (1 : Int) = 0 by decide)]
    · rw [if_neg c]
      refine swC_at L (fun e he => h e (List.mem_cons_of_mem _ he)) (fun e he => g e (List.mem_cons_of_mem _ he)) ?_ hl
      rcases List.mem_cons.mp he with q | q
      · exact absurd (by rw [q]) c
      · exact q
/-- the switch gives the place among n constants from lo -/
theorem swC_ix {β : Type} {F : Int → Option β} {L : List (Int × Nat × Int)} {lo n : Nat} {r : Int} (hr : isIx lo n l r) (hc : pCon s) (hx : pSg s x l) (hl : (l.length : Int) ≤ 1000000) (hn : lo + n ≤ 202) (h1 : ∀ e ∈ L, e.1 = hs (cS e.2.1) ∧ lo ≤ e.2.1 ∧ e.2.1 < lo + n ∧ e.2.2 = ((e.2.1 - lo : Nat) : Int)) (h2 : ∀ e ∈ L, ∀ e' ∈ L, e.1 = e'.1 → e = e') (h3 : ∀ i, i < n → ∃ e ∈ L, e.2.1 = lo + i) : swC s x (hs l) F L = F r := by
  have eq : ∀ e ∈ L, mp_J2_equals s x (jc s e.2.1) = some (if l = cS e.2.1 then 1 else 0) := fun e he => s_equals hx (hc.1 e.2.1 (by have := h1 e he; omega)).1 hl
  rcases hr with ⟨i, r1, r2, r3, r4⟩ | ⟨r1, r2⟩
  · obtain ⟨e, e1, e2⟩ := h3 i r2
    have g := h1 e e1
    have hle : l = cS e.2.1 := by rw [e2]; exact r3
    have := swC_at (F := F) (e0 := e) L eq (fun e' he' q => h2 e' he' e e1 q) e1 hle
    rw [g.1, ← hle] at this
    rw [this, g.2.2.2, e2, r1]
    congr 1; omega
  · rw [swC_no L eq fun e he z => r2 (e.2.1 - lo) (by have := h1 e he; omega) (by rw [show lo + (e.2.1 - lo) = e.2.1 by have := h1 e he; omega]; exact z), r1]
end jHash
