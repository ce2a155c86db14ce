/-! the component's lines -/
section jCline
variable {s t u u0 u1 w v' : jS} {R x b a a' n p p' p0 q r k c f v y e d o z K S X Y X' Y' P Q pl lo lo' ln y0 eX eY f0 f1 f2 : Int} {g fl : Int → Int} {l m : List Int} {NL : List (List Int)} {W : wR4} {st st' : pS} {I I' L L1 L2 : pI} {A : Int → Prop} {OL : List pvO} {SL : List pvS} {qq : jS × Bool × Int} {zz : pvO} {ss : pvS}
/-- a statement's object -/
theorem st_new (n0 : 0 ≤ jn u) (hB : jBd u 1 6) : ∃ v, jnw u 62 6 (jdf 62) = some (v, jn u) ∧ m_X45_init v (jn u) = some (v, 0) ∧ jGw u v 1 6 (fun _ => False) ∧ jf v 62 (jn u) 3 = 0 ∧ jK v (jn u) = 62 ∧ jn v = jn u + 1 := by
  obtain ⟨b1, b2⟩ := hB
  have e1 : jnw u 62 6 (jdf 62) = some (jmk u 62 0 (jdf 62) 6, jn u) := by unfold jnw; exact if_pos ⟨n0, by omega, by omega⟩
  have Gm : jGw u (jmk u 62 0 (jdf 62) 6) 1 6 (fun _ => False) := (jGw.rfl (A := fun _ => False)).mk.mono (by omega) (by omega) fun _ _ z => z
  have fn : ∀ k, jf (jmk u 62 0 (jdf 62) 6) 62 (jn u) k = jdf 62 k := fun k => if_pos ⟨rfl, rfl⟩
  have kk : jK (jmk u 62 0 (jdf 62) 6) (jn u) = 62 := if_pos rfl
  refine ⟨_, e1, ?_, Gm, ?_, kk, rfl⟩
  · rw [em_X45_init]; unfold dm_X45_init
    rw [jck0_in n0]
  · rw [fn]; decide
/-- one write -/
theorem jpF {v v2 : jS} {x : Int} (e : v2 = jp v c a k x) : (∀ c' a' k', ¬ (c' = c ∧ a' = a ∧ k' = k) → jf v2 c' a' k' = jf v c' a' k') ∧ jf v2 c a k = x ∧ jK v2 = jK v ∧ jN v2 = jN v ∧ jn v2 = jn v := by
  subst e
  exact ⟨fun c' a' k' h => jf_neg h, jf_pos ⟨rfl, rfl, rfl⟩, rfl, rfl, rfl⟩
theorem jGw_wr {v2 : jS} (h : jGw s t X Y A) (e : v2 = jp t c a k v) (hc : A a ∨ jn s ≤ a) : jGw s v2 X Y A := by subst e; exact h.jp hc
/-- six writes to the new statement, one into the row, one more -/
theorem x_statement (h : lB u R x b a g n st I OL SL) (h4 : SL.length < 400) (hn0 : 0 ≤ jn u) (hB : jBd u 1 6) (hl : jf u 53 R 3 = ln) : ∃ w, m_X44_statement u R o v pl = some (w, jn u) ∧ lS w R x b a (jn u) g n st I OL SL (o, v, (OL.length : Int), 0, pl, ln) ∧ jGw u w 1 6 (fun z => z = b ∨ z = b + 1) ∧ (∀ j, jf w 53 R j = jf u 53 R j) ∧ jn w = jn u + 1 := by
  obtain ⟨C, hI, hO, hS, hc⟩ := h
  have B := C.2.1
  have hr := C.1.1
  have hx := C.1.row
  have eb := C.1.2.2.2.1
  have hb := B.lt
  obtain ⟨⟨e1, e2, e3⟩, ⟨g0, g1, g2, g3, g4⟩, ⟨a1, a2⟩, ⟨b1, b2⟩, ⟨c1, c2⟩, ⟨d1, d2⟩, k1, k2⟩ := B
  have s400 := hS.2.1
  obtain ⟨v1, w1, w2, w3, w4, w5, w6⟩ := st_new hn0 hB
  obtain ⟨v2, E2⟩ : ∃ v2, v2 = jp v1 62 (jn u) 0 o := ⟨_, rfl⟩
  obtain ⟨v3, E3⟩ : ∃ v3, v3 = jp v2 62 (jn u) 1 v := ⟨_, rfl⟩
  obtain ⟨v4, E4⟩ : ∃ v4, v4 = jp v3 62 (jn u) 2 OL.length := ⟨_, rfl⟩
  obtain ⟨v5, E5⟩ : ∃ v5, v5 = jp v4 62 (jn u) 4 pl := ⟨_, rfl⟩
  obtain ⟨v6, E6⟩ : ∃ v6, v6 = jp v5 62 (jn u) 5 ln := ⟨_, rfl⟩
  obtain ⟨v7, E7⟩ : ∃ v7, v7 = jp v6 1025 (b + 1) SL.length (jn u) := ⟨_, rfl⟩
  obtain ⟨v8, E8⟩ : ∃ v8, v8 = jp v7 16 b 5 (SL.length + 1) := ⟨_, rfl⟩
  obtain ⟨f2, p2, K2, N2, n2⟩ := jpF E2
  obtain ⟨f3, p3, K3, N3, n3⟩ := jpF E3
  obtain ⟨f4, p4, K4, N4, n4⟩ := jpF E4
  obtain ⟨f5, p5, K5, N5, n5⟩ := jpF E5
  obtain ⟨f6, p6, K6, N6, n6⟩ := jpF E6
  obtain ⟨f7, p7, K7, N7, n7⟩ := jpF E7
  obtain ⟨f8, p8, K8, N8, n8⟩ := jpF E8
  have G2 := jGw_wr w3 E2 (.inr (Int.le_refl _))
  have G3 := jGw_wr G2 E3 (.inr (Int.le_refl _))
  have G4 := jGw_wr G3 E4 (.inr (Int.le_refl _))
  have G5 := jGw_wr G4 E5 (.inr (Int.le_refl _))
  have G6 := jGw_wr G5 E6 (.inr (Int.le_refl _))
  have F : ∀ {vv : jS}, jGw u vv 1 6 (fun _ => False) → ∀ c y k, y < jn u → jf vv c y k = jf u c y k := fun h c y k hy => h.2.2 c y k hy fun z => z
  have kN6 : jK v6 (jn u) = 62 := by rw [K6, K5, K4, K3, K2]; exact w5
  have eX : m_X44_statement u R o v pl = some (v8, jn u) := by
    rw [em_X44_statement]; unfold dm_X44_statement
    rw [w1, Option.bind_some, jck0_in hn0, w2, Option.bind_some]
    simp only [jls]
    rw [← E2, ← E3, F G3 _ _ _ hr.2.1, eb, jrd_in e1 (by rw [G3.K (by omega)]; exact e3), Option.bind_some, F G3 _ _ _ (by omega), hO.1, ← E4, ← E5, F G5 _ _ _ hr.2.1, hl, ← E6, F G6 _ _ _ hr.2.1, eb, jrd_in e1 (by rw [G6.K (by omega)]; exact e3), Option.bind_some, jrd_in e1 (by rw [G6.K (by omega)]; exact e3), Option.bind_some, F G6 _ _ _ (by omega), F G6 _ _ _ (by omega), g0, hS.1]
    rw [show jas v6 1025 62 (b + 1) SL.length (jn u) = some v7 from by unfold jas; rw [if_pos ⟨by omega, by rw [G6.K (by omega)]; exact a1, by omega, by rw [G6.N (by omega)]; omega, .inr ⟨hn0, kN6⟩⟩, E7], Option.bind_some]
    have kb : jK v7 b = 16 := by rw [K7, G6.K (by omega)]; exact e3
    rw [f7 _ _ _ (by omega), F G6 _ _ _ hr.2.1, eb, jrd_in e1 kb, Option.bind_some, f7 _ _ _ (by omega), F G6 _ _ _ (by omega), hS.1, jwr_in e1 kb, Option.bind_some, W32_in (by omega) (by omega), ← E8]
  have G7 : jGw u v7 1 6 (fun z => z = b ∨ z = b + 1) := jGw_wr (G6.mono (Int.le_refl _) (Int.le_refl _) fun _ _ z => z.elim) E7 (.inl (.inr rfl))
  have G8 := jGw_wr G7 E8 (.inl (.inl rfl))
  have Fv : ∀ c y k : Int, y < jn u → ¬ (c = 16 ∧ y = b ∧ k = 5) → ¬ (c = 1025 ∧ y = b + 1 ∧ k = SL.length) → jf v8 c y k = jf u c y k := fun c y k hy z z1 => by
    rw [f8 _ _ _ z, f7 _ _ _ z1, F G6 _ _ _ hy]
  have Fn : ∀ j, jf v8 62 (jn u) j = jf v6 62 (jn u) j := fun j => by rw [f8 _ _ _ (by omega), f7 _ _ _ (by omega)]
  have bk : bkF u v8 b 1 6 := ⟨G8.mono (Int.le_refl _) (Int.le_refl _) fun z _ q => by
    rcases q with q | q
    · exact .inl q
    · exact .inr (.inl q), fun k hk => Fv _ _ _ (by omega) (by omega) (by omega)⟩
  refine ⟨_, eX, ⟨(C.bk bk).1, ?_, ⟨?_, hO.2.1, fun i hi => ?_⟩, ⟨⟨p8, by omega⟩, fun i hi => ?_, ?_, by omega, ⟨⟨hn0, by rw [n8, n7, n6, n5, n4, n3, n2, w6]; omega, by rw [K8, K7]; exact kN6⟩, ?_⟩⟩, hc⟩, G8, fun j => Fv _ _ _ hr.2.1 (by omega) (by omega), by rw [n8, n7, n6, n5, n4, n3, n2, w6]⟩
  · exact hI.sm ⟨Fv _ _ _ (by omega) (by omega) (by omega), fun i => ⟨Fv _ _ _ (by omega) (by omega) (by omega), Fv _ _ _ (by omega) (by omega) (by omega)⟩⟩
  · rw [Fv _ _ _ (by omega) (by omega) (by omega)]; exact hO.1
  · rw [Fv _ _ _ (by omega) (by omega) (by omega)]
    exact ⟨(hO.2.2 i hi).1, (hO.2.2 i hi).2.gw G8 (fun z q => by
      rcases q with q | q <;> rw [q] <;> omega) ⟨hx.2.1, hx.2.2.1⟩⟩
  · rw [Fv _ _ _ (by omega) (by omega) (by omega)]
    obtain ⟨r1, r2⟩ := hS.2.2 i hi
    exact ⟨r1, by have := r2.1.2.1; omega, r2.gw G8 (fun q => by
      rcases q with q | q <;> omega)⟩
  · rw [f8 _ _ _ (by omega)]; exact p7
  · rw [Fn, Fn, Fn, Fn, Fn, Fn]
    refine ⟨?_, ?_, ?_, ?_, ?_, p6⟩
    · rw [f6 _ _ _ (by omega), f5 _ _ _ (by omega), f4 _ _ _ (by omega), f3 _ _ _ (by omega)]; exact p2
    · rw [f6 _ _ _ (by omega), f5 _ _ _ (by omega), f4 _ _ _ (by omega)]; exact p3
    · rw [f6 _ _ _ (by omega), f5 _ _ _ (by omega)]; exact p4
    · rw [f6 _ _ _ (by omega), f5 _ _ _ (by omega), f4 _ _ _ (by omega), f3 _ _ _ (by omega), f2 _ _ _ (by omega)]; exact w4
    · rw [f6 _ _ _ (by omega)]; exact p5
end jCline
