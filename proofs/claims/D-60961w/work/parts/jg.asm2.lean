/-! assembling, both sides: a text that can be read *-/
set_option maxRecDepth 100000
section jAsm2g
variable {s t u w s1 t1 : jS} {a c k v x y z n A H b lo O f p ln : Int} {wg g : Int → Int} {NL : List (List Int)} {I : pI} {OL : List pvO} {SL : List pvS} {o : Int} {q : jS × Bool × Int} {r : jS}
/-- what the component's reading and statements change *-/
abbrev asB (s : jS) (A c : Int) : Int → Prop := fun z => (z = A + (-3890) ∨ c ≤ z ∧ z ≤ c + 5) ∨ ((A ≤ z ∧ z ≤ A + 126 ∨ z = A + (-4147) + 24 ∨ z = A + (-4147) + 25) ∨ jK s z = 9)
theorem bkP.rg {b : Int} {X Y : Int} (h : bkP s b lo NL I OL SL) (hm : mkH s O b lo) (g : jGw s u X Y fun z => O ≤ z ∧ z < O + 1858) : bkP u b lo NL I OL SL := h.keep g fun z hz => ⟨by have := hm.2.1; omega, hm.1 z hz.1 hz.2, fun _ => by have := hm.2.2.1; omega⟩
/-- all statements and the object, from the statements' start on *-/
theorem asm_s {P Q : Int} (h : LI u w A H c lo NL I OL SL 0) (gg : jGw s u P Q (asB s A c)) (hm : ∀ z, O ≤ z → z < O + 1858 → ¬ (jK s z = 62 ∨ jK s z = 63 ∨ jK s z = 9 ∨ 3000 ≤ jK s z)) (h38 : ∀ i, 0 ≤ i → i < 100 → jK s (A + 1 + 26 + 1 * i) = 38) (hJ : jTt s 33 O) (hL : cObL s (O + 1)) (hN1 : jN s (O + 1233) = 8193) (hN2 : jN s (O + 1230) = 8192) (hP : pTi w (H + 25)) (hA : A = O + 3872) (hn : A + 127 ≤ jn s) (hc : c + 5 < O ∧ 0 ≤ c) (hlo : O + 1858 ≤ lo) (hB : jBd u 1000 17000) :
    (∃ q r x, u_X33_assemble_50 u A n = some q ∧ ((m_X37_statements w H).bind fun q8 => if q8.2 = 0 then u_X37_assemble_109 q8.1 H k 0 else (m_X37_makeObject q8.1 H).bind fun q9 => (m_X40_write q9.1 (H + 25)).bind fun q10 => if q10.2 < 0 then (m_X37_fail_2 q10.1 H 20 n).bind fun q11 => u_X37_assemble_109 q11.1 H k q10.2 else u_X37_assemble_109 q10.1 H k q10.2) = u_X37_assemble_109 r H k x ∧ q.2.1 = true ∧ (0 ≤ q.2.2 ∧ jK q.1 q.2.2 = 2054) ∧ (∃ f p, ¬ f = 0 ∧ (jf q.1 37 A 37 = f ∧ jf q.1 37 A 38 = p) ∧ (jf r 41 H 42 = f ∧ jf r 41 H 43 = p)) ∧ jGw u q.1 601 15006 (fun z => ((A ≤ z ∧ z ≤ A + 126 ∨ z = A + (-4147) + 24 ∨ z = A + (-4147) + 25) ∨ jK u z = 9) ∨ rgM O z) ∧ asT H w r ∧ bkP q.1 c lo NL I OL SL ∧ ((∀ k, jf r 43 (H + 8) k = jf w 43 (H + 8) k) ∧ ∀ a k, H + 9 ≤ a → a ≤ H + 24 → jf r 1000 a k = jf w 1000 a k)) ∨
    (∃ u' r m, u_X33_assemble_50 u A n = some (u', false, 0) ∧ ((m_X37_statements w H).bind fun q8 => if q8.2 = 0 then u_X37_assemble_109 q8.1 H k 0 else (m_X37_makeObject q8.1 H).bind fun q9 => (m_X40_write q9.1 (H + 25)).bind fun q10 => if q10.2 < 0 then (m_X37_fail_2 q10.1 H 20 n).bind fun q11 => u_X37_assemble_109 q11.1 H k q10.2 else u_X37_assemble_109 q10.1 H k q10.2) = u_X37_assemble_109 r H k m ∧ jf r 41 H 42 = 0 ∧ (0 < m ∧ m ≤ 8192 ∧ ∃ g', fB u' (O + 1229) g' m ∧ ∀ i, 0 ≤ i → i < m → jf r 1000 (H + 25 + 21) i = g' i) ∧ jGw u u' 601 15006 (fun z => ((A ≤ z ∧ z ≤ A + 126 ∨ z = A + (-4147) + 24 ∨ z = A + (-4147) + 25) ∨ jK u z = 9) ∨ rgM O z) ∧ asT H w r ∧ bkP u' c lo NL I OL SL ∧ ((∀ k, jf r 43 (H + 8) k = jf w 43 (H + 8) k) ∧ ∀ a k, H + 9 ≤ a → a ≤ H + 24 → jf r 1000 a k = jf w 1000 a k)) := by
  have jnu := gg.1.1
  have bk0 : bkP u c lo NL I OL SL := h.1.1.2
  have ln := h.1.2.2.2.1
  have kR : ∀ v, pWd v (A + (-4147)) ∧ pWl v (A + (-4147)) (A + (-3890)) → aKd v A → A + 127 ≤ jn v → ∀ z, oRg A z → z < jn v ∧ jK v z < 3000 ∧ ¬ (jK v z = 9 ∨ jK v z = 62 ∨ jK v z = 63) := fun v q1 q2 q3 z hz => by
    have nk := q1.2.2.2.2.1
    rcases hz with hz | hz | hz
    · have := q2 z hz.1 hz.2; omega
    · rw [hz, nk.1]; omega
    · rw [hz, nk.2]; omega
  have kL : ∀ z, oRg A z → ¬ (c ≤ z ∧ z ≤ c + 5) ∧ z ≤ lo := fun z hz => by omega
  rcases stmts2 (x1 := n) h with ⟨q, r, e1, e2, e3⟩ | ⟨u1, w1, e1, e2, e3, e4, e5⟩
  · left
    obtain ⟨f, p, f1, f2, f3, f4, f5, f6, f7⟩ := e3
    refine ⟨q, r, 0, e1, by rw [e2, Option.bind_some, if_pos rfl], f2, f3, ⟨f, p, f1, f4, f5⟩, f6.1.mono (by omega) (by omega) fun a _ z => .inl z, f7.as, bk0.fo f6 (kR u h.1.2.1 h.1.2.2.2.2.1 (by omega)) kL, fun k => f7.2 _ _ _ (by omega) (by omega) (by omega) (by omega), fun a k a0 a1 => f7.2 _ _ _ (by omega) (by omega) (by omega) (by omega)⟩
  have jn1 := e4.1.1.1
  have g1 : jGw s u1 P Q (asB s A c) := (gg.trans e4.1 (by
    intro a ha z
    rcases z with z | z
    · exact z
    · refine .inr ?_
      rw [gg.K ha] at z
      exact z) : jGw s u1 (P + 0) (Q + 0) (asB s A c)).mono (by omega) (by omega) fun _ _ z => z
  have nB : ∀ z, O ≤ z → z < O + 1858 → ¬ asB s A c z := fun z z0 z1 q => by
    have := hm z z0 z1
    unfold asB at q
    omega
  have hm1 : mkH u1 O c lo := ⟨fun z z0 z1 => by rw [g1.K (by omega)]; exact hm z z0 z1, hc, hlo, by omega⟩
  have hB1 : jBd u1 1000 17000 := jGw.bd (p := 0) (q := 0) e4.1 hB
  obtain ⟨u2, w2, o, d, k1, k2, k3, k4, k5, k6⟩ := finish2 (X := H + 25) hA rfl e3 hm1 (hB1.le (by omega) (by omega)) (fun i i0 i1 => by rw [g1.K (by omega)]; exact h38 i i0 i1) (T33_gw hJ g1 nB (by omega)) (fun x x0 x1 => by rw [g1.N (by omega)]; exact hL x x0 x1)
  have hC2 : pCon u2 := e3.1.2.2.1.keep k3 fun z hz => by have := hm1.1 z hz.1 hz.2; omega
  have jn2 := k3.1.1
  have hP2 : pTi w2 (H + 25) := k4.ti (hP.keep fun a k e => e5.2 _ _ _ (by omega) (by omega) (by omega) (by omega))
  obtain ⟨r, q, i1, i2, i3, i4, i5, i6, i7⟩ := o_write3 k5 hC2 (by rw [k3.N (by omega), g1.N (by omega)]; exact hN1) (by rw [k3.N (by omega), g1.N (by omega)]; exact hN2) k6.1 hP2
  have v42 : jf q.1 41 H 42 = 0 := by
    have := e3.2.2.2.1.2.2.2.2.2.2.2
    rw [i6.2 _ _ _ (by omega) (by omega), k4.2 _ _ _ (by omega)]; exact this
  have gA : jGw u u2 600 15000 (fun z => ((A ≤ z ∧ z ≤ A + 126 ∨ z = A + (-4147) + 24 ∨ z = A + (-4147) + 25) ∨ jK u z = 9) ∨ rgM O z) := (jGw.trans (p := 0) (q := 0) e4.1 k3 fun a _ z => z).mono (by omega) (by omega) fun _ _ z => z
  have gB : jGw u r.1 600 15000 (fun z => ((A ≤ z ∧ z ≤ A + 126 ∨ z = A + (-4147) + 24 ∨ z = A + (-4147) + 25) ∨ jK u z = 9) ∨ rgM O z) := (gA.trans i5.gwR (fun a _ z => z.elim id fun z => .inr ⟨by omega, by omega⟩) : jGw u r.1 (600 + 0) (15000 + 0) _)
  have aT : asT H w q.1 := (e5.as.trans k4.as).trans i6.as
  have qK : (∀ k, jf q.1 43 (H + 8) k = jf w 43 (H + 8) k) ∧ ∀ a k, H + 9 ≤ a → a ≤ H + 24 → jf q.1 1000 a k = jf w 1000 a k := ⟨fun k => by rw [i6.2 _ _ _ (by omega) (by omega), k4.2 _ _ _ (by omega), e5.2 _ _ _ (by omega) (by omega) (by omega) (by omega)], fun a k a0 a1 => by rw [i6.2 _ _ _ (by omega) (by omega), k4.2 _ _ _ (by omega), e5.2 _ _ _ (by omega) (by omega) (by omega) (by omega)]⟩
  have ec : u_X33_assemble_50 u A n = if r.2 < 0 then (m_X33_wrong r.1 A 20 n).bind fun q3 => jck0 q3.2 (some (q3.1, true, q3.2)) else some (r.1, false, 0) := by
    rw [e1, eu_X33_assemble_294]; unfold du_X33_assemble_294
    rw [if_pos rfl, k1, Option.bind_some, show A + -3872 = O by omega]
    dsimp only
    rw [i1, Option.bind_some]
  have ey : ((m_X37_statements w H).bind fun q8 => if q8.2 = 0 then u_X37_assemble_109 q8.1 H k 0 else (m_X37_makeObject q8.1 H).bind fun q9 => (m_X40_write q9.1 (H + 25)).bind fun q10 => if q10.2 < 0 then (m_X37_fail_2 q10.1 H 20 n).bind fun q11 => u_X37_assemble_109 q11.1 H k q10.2 else u_X37_assemble_109 q10.1 H k q10.2) = if q.2 < 0 then (m_X37_fail_2 q.1 H 20 n).bind fun q11 => u_X37_assemble_109 q11.1 H k q.2 else u_X37_assemble_109 q.1 H k q.2 := by
    rw [e2, Option.bind_some]
    dsimp only
    rw [if_neg n10, k2, Option.bind_some]
    dsimp only
    rw [i2, Option.bind_some]
  rw [ec, ey, ← i3]
  have jn3 : jn r.1 = jn u2 := i5.1.1.2.2.1
  have bdA := e3.1.2.2.2.1
  have bk1 : bkP u1 c lo NL I OL SL := e3.1.1.2
  have bk2 : bkP u2 c lo NL I OL SL := bk1.rg hm1 k3
  have bk3 : bkP r.1 c lo NL I OL SL := bk2.rg (hm1.gw k3) (i5.gwR.mono (Int.le_refl _) (Int.le_refl _) fun a _ z => ⟨by omega, by omega⟩)
  by_cases c0 : r.2 < 0
  · left
    have hB3 : jBd r.1 4 40 := by
      unfold jBd at hB1 ⊢
      obtain ⟨z1, z2, z3, z4, z5, z6⟩ := k3.1
      obtain ⟨y1, y2, y3, y4, y5, y6⟩ := i5.gwR.1
      omega
    obtain ⟨q', j1, j2, j3, j4, j5⟩ := comp_wrong (s := r.1) (A := A) (o := 20) (p := n) ⟨by omega, hB3⟩ ⟨by omega, by omega⟩ (by decide)
    refine ⟨q', jp (jp q.1 41 H 42 20) 41 H 43 n, r.2, ?_, ?_, j2, j3, ⟨20, n, by decide, j4, ?_, ?_⟩, (gB.trans j5 (fun a _ z => z.elim id fun z => .inl (.inl z)) : jGw u q'.1 (600 + 1) (15000 + 6) _), ?_, ?_, fun k => by rw [jf_neg (by omega), jf_neg (by omega)]; exact qK.1 k, fun a k a0 a1 => by rw [jf_neg (by omega), jf_neg (by omega)]; exact qK.2 a k a0 a1⟩
    · rw [if_pos c0]; exact j1
    · rw [if_pos c0, fail2_is v42, Option.bind_some]
    · rw [jf_neg (by omega), jf_jp, if_pos ⟨rfl, rfl, rfl⟩]
    · rw [jf_jp, if_pos ⟨rfl, rfl, rfl⟩]
    · exact (aT.jp (by omega)).jp (by omega)
    · have kk := kR u1 e3.1.2.1 e3.1.2.2.2.2.1 (by omega)
      refine bk3.keep j5 fun z hz => ⟨(kL z hz).1, ?_, fun _ => (kL z hz).2⟩
      obtain ⟨y1, y2, y3⟩ := kk z hz
      rw [i5.gwR.K (by omega), k3.K y1]
      omega
  · right
    obtain ⟨m1, g', m2, m3⟩ := i7 (by omega)
    exact ⟨r.1, q.1, r.2, by rw [if_neg c0], by rw [if_neg c0], v42, ⟨by omega, m1, g', m2, m3⟩, gB.mono (by omega) (by omega) fun _ _ z => z, aT, bk3, qK⟩
end jAsm2g
