/-! assemble of all together, both sides: the whole call -/
set_option maxRecDepth 100000
section jAsm5
variable {s t u w s1 t1 : jS} {a c k v x y z n m A H b lo O f p ln C T d : Int} {wg g : Int → Int} {q : jS × Bool × Int} {r : jS}
/-- without the file -/
abbrev rA0 (s : jS) (C c : Int) : Int → Prop := fun z => z = C ∨ (z = C + 258 ∨ c ≤ z ∧ z ≤ c + 5) ∨ ((C + 4148 ≤ z ∧ z ≤ C + 4274 ∨ z = C + 25 ∨ z = C + 26) ∨ jK s z = 9) ∨ (C + 276 ≤ z ∧ z < C + 2134)
theorem rA0.no (hm : cKn s C) (hc : c = C + 261 ∨ c = C + 267) (h : rA0 s C c z) : ¬ (C + 3992 ≤ z ∧ z < C + 4148) ∧ ¬ (C + 4275 ≤ z ∧ z < C + 15674) ∧ ¬ (C + 2134 ≤ z ∧ z < C + 3992) := by
  have := hm z
  unfold rA0 at h
  omega
theorem asX.kp {r' w' : jS} {U X Y : Int} {P : Int → Prop} (h : asX s u t w T U b c) (hT : ¬ (c ≤ T ∧ T ≤ c + 5) ∧ (c = T + 3 ∨ c = T + 9)) (g : jGw u r' X Y P) (hn : T + 16 < jn u) (hP : ∀ z, P z → ¬ (T ≤ z ∧ z ≤ T + 16) ∧ ¬ (jK u z = 62 ∨ jK u z = 63 ∨ jK u z = 9 ∨ 3000 ≤ jK u z) ∧ z < jn s) (f1 : jf w' 43 U 3 = jf w 43 U 3) (f2 : ∀ a k, 3 ≤ a ∧ a ≤ 9 ∨ a = 16 → jf w' 1000 (U + a) k = jf w 1000 (U + a) k) : asX s r' t w' T U b c := by
  obtain ⟨h1, h2, h3, h4⟩ := h
  have F : ∀ k, jf r' 15 T k = jf u 15 T k := fun k => g.2.2 _ _ _ (by omega) fun z => by have := (hP _ z).1; omega
  refine ⟨by rw [F]; exact h1, by rw [f1]; exact h2, fun k hk => by rw [F]; exact h3 k hk, ?_⟩
  rcases h4 with ⟨a1, a2, a3⟩ | ⟨a1, a2, lo, NL, I, OL, SL, hl, a3, a4, a5⟩
  · exact .inl ⟨by rw [F]; exact a1, by rw [F]; exact a2, fun a k ha k0 k1 => by rw [f2 a _ ha]; exact a3 a k ha k0 k1⟩
  · exact .inr ⟨by rw [F]; exact a1, by rw [F]; exact a2, lo, NL, I, OL, SL, hl, a3.keep g fun z hz => ⟨by have := (hP z hz).1; omega, (hP z hz).2.1, fun _ => by have := (hP z hz).2.2; omega⟩, a4.cg fun a j ha j0 j1 => f2 a _ ha, a5⟩
theorem f_assemble (hk : 0 ≤ k ∧ k < 6) (h1 : cTx s (C + 258) wg g n b c) (h2 : tdI t (T + 8) g n) (h3 : pWd s (C + 1) ∧ pWl s (C + 1) (C + 258)) (h4 : pRows t (T + 4 + 1)) (hC : pCon s) (hK : aKd s (C + 4148)) (hm : cKn s C) (h38 : ∀ i, 0 ≤ i → i < 100 → jK s (C + 4148 + 1 + 26 + 1 * i) = 38) (hT : jTt s 17 C) (hL : oLn s C) (hN1 : jN s (C + 276 + 1233) = 8193) (hN2 : jN s (C + 276 + 1230) = 8192) (hP : pTi t (T + 25)) (hF : Fls s C t T) (hn : C + 15674 ≤ jn s) (hB : jBd s (40 * n + 3200) (5400 * n + 925000)) (hx : ∀ q, m_X33_assemble s (C + 4148) = some q → jEx s q.1) :
    ∃ r q, m_X1_assemble s C k = some r ∧ m_X37_assemble t T k = some q ∧ AsQ s C t T b c n k r.1 q.1 ∧ (r.2.1 = false ∧ r.2.2 = q.2 ∧ jf q.1 41 T 4 = 0 ∨ r.2.1 = true ∧ (0 ≤ r.2.2 ∧ jK r.1 r.2.2 = 2054) ∧ jf q.1 41 T 4 = 2) := by
  obtain ⟨⟨C0, kC⟩, -, -, tO, -, -, -, -, -, tU⟩ := T17 hT
  have bc := h1.2.2.2.2.2.2.2.2.1
  have cc : c = C + 261 ∨ c = C + 267 := by omega
  have n0 := h1.2.2.2.2.2.2.1.2
  obtain ⟨A, hA⟩ : ∃ A, A = C + 4148 := ⟨_, rfl⟩
  obtain ⟨O, hO⟩ : ∃ O, O = C + 276 := ⟨_, rfl⟩
  obtain ⟨t0, E0⟩ : ∃ t0, t0 = jp t 41 T 4 0 := ⟨_, rfl⟩
  obtain ⟨f0, p0, -⟩ := jpF E0
  have cyc : ∀ c a k, ¬ c = 41 → jf t0 c a k = jf t c a k := fun c a k hc => f0 _ _ _ (by omega)
  have h2' : tdI t0 (T + 8) g n := ⟨by rw [cyc _ _ _ (by omega)]; exact h2.1, fun j j0 j1 => by rw [cyc _ _ _ (by omega)]; exact h2.2.1 j j0 j1, h2.2.2⟩
  have h4' : pRows t0 (T + 4 + 1) := fun j j0 j1 => by rw [cyc _ _ _ (by omega)]; exact h4 j j0 j1
  have hP' : pTi t0 (T + 25) := hP.keep fun a j e => cyc _ _ _ (by omega)
  have e3890 : A + (-3890) = C + 258 := by omega
  have core := asm_core (s := s) (t := t0) (A := A) (H := T) (O := O) (b := b) (c := c) (n := n) (k := k) (wg := wg) (g := g) (by rw [e3890]; exact h1) h2' (by rw [e3890, show A + (-4147) = C + 1 by omega]; exact h3) h4' hC (by rw [hA]; exact hK) (fun z z0 z1 => hm z (by omega) (by omega)) (by rw [hA]; exact h38) (by rw [hO]; exact tO) (by rw [hO]; exact (hL _ (.inl rfl)).1) (by rw [hO]; exact hN1) (by rw [hO]; exact hN2) hP' (by omega) ⟨by omega, by omega⟩ hB
  rw [← hA] at hx
  have a0 : asTf T t t0 := by rw [E0]; exact asTf.rfl.jp (by omega)
  have ey : m_X37_assemble t T k = yAs t0 T k n := by
    rw [em_X37_assemble]; unfold dm_X37_assemble
    rw [(isU1 (s := s) hk.1 hk.2).2, Option.bind_some, if_neg n10, eu_X37_assemble_13]; unfold du_X37_assemble_13
    rw [jls_e, ← E0, p0, if_pos rfl, h2'.1]
    rfl
  have ec : m_X1_assemble s C k = (m_X33_assemble s A).bind fun q2 => jth q2.2.1 (if jK q2.1 q2.2.2 ∈ ([2054] : List Int) then jls (jp q2.1 1 C 9 (jf q2.1 37 A 37)) fun s3 => jls (jp s3 1 C 10 (jf s3 37 A 38)) fun s4 => jck0 q2.2.2 (some (s4, true, q2.2.2)) else none) <| jls (jp q2.1 1 C 9 0) fun s5 => jls (jp s5 1 C 10 (-1)) fun s6 => (m_X1_copy s6 O (fAt C k)).bind fun q8 => (m_X13_size q8.1 (fAt C k)).bind fun v10 => some (q8.1, false, v10) := by
    rw [em_X1_assemble]; unfold dm_X1_assemble
    rw [X1_there1 hk.1 hk.2, Option.bind_some]
    dsimp only
    rw [jth_ff, ← hA]
    refine congrArg _ (funext fun q2 => ?_)
    refine congrArg _ ?_
    simp only [jls, jix_in hk.1 hk.2, Option.bind_some]
    rw [hO]; rfl
  -- what the assembler leaves of the component, then the two slots
  have base : ∀ u, asF s u A O c n → jEx s u → ∀ x y u1 u2, u1 = jp u 1 C 9 x → u2 = jp u1 1 C 10 y → jGw s u2 (40 * n + 720) (5400 * n + 16300) (rA0 s C c) ∧ jEx s u2 ∧ (∀ c a j, ¬ (c = 1 ∧ a = C ∧ (j = 9 ∨ j = 10)) → jf u2 c a j = jf u c a j) ∧ jf u2 1 C 9 = x ∧ jf u2 1 C 10 = y ∧ (∀ j, ¬ (j = 9 ∨ j = 10) → jf u2 1 C j = jf s 1 C j) := fun u fu xu x y u1 u2 E1 E2 => by
    obtain ⟨f1, p1, -⟩ := jpF E1
    obtain ⟨f2, p2, -⟩ := jpF E2
    have G0 : jGw s u (40 * n + 720) (5400 * n + 16300) (rA0 s C c) := fu.mono (Int.le_refl _) (Int.le_refl _) fun z z0 hz => by
      unfold rA0; omega
    have G1 := jGw_wr G0 E1 (.inl (.inl rfl))
    have G2 := jGw_wr G1 E2 (.inl (.inl rfl))
    refine ⟨G2, ?_, fun c a j hc => by rw [f2 _ _ _ (by omega), f1 _ _ _ (by omega)], by rw [f2 _ _ _ (by omega), p1], p2, fun j hj => by rw [f2 _ _ _ (by omega), f1 _ _ _ (by omega)]; exact fu.2.2 _ _ _ (by omega) (by have := hm C (Int.le_refl _) (by omega); omega)⟩
    rw [E2, E1]
    exact (xu.jp rfl).jp rfl
  have noA : ∀ z, rA0 s C c z → ¬ (C + 4011 ≤ z ∧ z < C + 4013) ∧ ∀ u, 0 ≤ u → u < 6 → ¬ (fAt C u + 1229 ≤ z ∧ z < fAt C u + 1231) := fun z hz => by
    obtain ⟨z1, z2, z3⟩ := rA0.no hm cc hz
    exact ⟨by omega, fun u u0 u1 q => by unfold fAt at q; omega⟩
  have gk : ∀ z, z = C → ¬ (C + 258 ≤ z ∧ z ≤ C + 258 + 16) := fun z hz => by omega
  have xfr : ∀ u u2 r w, jGw s u (40 * n + 720) (5400 * n + 16300) (rA0 s C c) → (∀ c a j, ¬ (c = 1 ∧ a = C ∧ (j = 9 ∨ j = 10)) → jf u2 c a j = jf u c a j) → jSm u u2 → asX s u t0 r (A + (-3890)) (T + 8) b c → (∀ c a j, ¬ c = 41 → ¬ (c = 1000 ∧ (a = T + 1 ∨ a = T + 2)) → jf w c a j = jf r c a j) → asX s u2 t w (C + 258) (T + 8) b c := fun u u2 r w gu fu mu ax fw => by
    rw [e3890] at ax
    have hn' := gu.1.1
    have := ax.kp (r' := u2) (w' := w) (X := 0) (Y := 0) (P := fun z => z = C) (by omega) (by obtain ⟨m1, m2, m3, m4, m5, m6, m7⟩ := mu; exact ⟨⟨by omega, by omega, by omega, m5, m6, m7⟩, fun z _ => ⟨by rw [m1], by rw [m2]⟩, fun c a j _ hz => fu c a j (by omega)⟩) (by omega) (fun z hz => by
      rw [hz]
      refine ⟨by omega, ?_, by omega⟩
      rw [gu.K (by omega)]
      exact hm C (by omega) (by omega)) (fw _ _ _ (by omega) (by omega)) fun a k ha => fw _ _ _ (by omega) (by omega)
    obtain ⟨x1, x2, x3, x4⟩ := this
    refine ⟨x1, x2, x3, x4.imp (fun ⟨y1, y2, y3⟩ => ⟨y1, y2, fun a k ha k0 k1 => by rw [y3 a k ha k0 k1, cyc _ _ _ (by omega)]⟩) id⟩
  rcases core with ⟨q, r, x, e1, e2, q1, q2, ⟨f, p, hf, ⟨q3, q4⟩, r3, r4⟩, fu, ft, ax⟩ | ⟨u, r, m, e1, e2, r3, ⟨m0, m1, g', hb, hr⟩, fu, ft, ax⟩
  · obtain ⟨u1, E1⟩ : ∃ u1, u1 = jp q.1 1 C 9 f := ⟨_, rfl⟩
    obtain ⟨u2, E2⟩ : ∃ u2, u2 = jp u1 1 C 10 p := ⟨_, rfl⟩
    obtain ⟨G, X, F, v9, v10, vj⟩ := base q.1 fu (hx q e1) f p u1 u2 E1 E2
    obtain ⟨w, d1, d2, d3, d4, d5, d6⟩ := f_asm1 (k := k) (x := x) hf r3 r4
    have K2 : jK u2 = jK q.1 := by rw [E2, E1]; rfl
    have sm2 : jSm q.1 u2 := (jSm.rfl.wr E1).wr E2
    have fR : asTf T t w := (a0.trans ft.tf).trans d2
    refine ⟨(u2, true, q.2.2), (w, 0), ?_, ?_, ⟨?_, ⟨by rw [v9, d3], by rw [v10, d4]⟩, vj, G.mono (Int.le_refl _) (Int.le_refl _) fun z _ hz => ?_, X, fR, ?_⟩, .inr ⟨rfl, ⟨q2.1, by rw [K2]; exact q2.2⟩, d5⟩⟩
    · rw [ec, e1, Option.bind_some, q1]
      show (if jK q.1 q.2.2 ∈ ([2054] : List Int) then _ else _) = _
      rw [if_pos (by rw [q2.2]; exact List.mem_singleton.mpr rfl), q3, jls_e, ← E1]
      obtain ⟨f1, -⟩ := jpF E1
      rw [f1 _ _ _ (by omega), q4, jls_e, ← E2, jck0_in q2.1]
    · rw [ey, e2, d1]
    · exact hF.kp C0 (by omega) G X noA fun c a j hc => by
        rw [d6 _ _ _ (by omega), ft.2 _ _ _ (by omega) (by omega) (by omega) (by omega) (by omega) (by omega) (by omega), f0 _ _ _ (by omega)]
    · rcases hz with z1 | z1 | z1 | z1
      · exact .inl z1
      · exact .inr (.inl z1)
      · exact .inr (.inr (.inl z1))
      · exact .inr (.inr (.inr (.inl z1)))
    · refine xfr q.1 u2 r w ?_ F sm2 ax fun c a j c1 c2 => d6 _ _ _ (by omega)
      exact fu.mono (Int.le_refl _) (Int.le_refl _) fun z z0 hz => by unfold rA0; omega
  · obtain ⟨u1, E1⟩ : ∃ u1, u1 = jp u 1 C 9 0 := ⟨_, rfl⟩
    obtain ⟨u2, E2⟩ : ∃ u2, u2 = jp u1 1 C 10 (-1) := ⟨_, rfl⟩
    obtain ⟨G, X, F, v9, v10, vj⟩ := base u fu (hx _ e1) 0 (-1) u1 u2 E1 E2
    obtain ⟨w, d1, d2, d3, d4, d5, d6, d7, d8⟩ := f_asm2 (k := k) hk (m := m) ⟨by omega, m1⟩ r3
    have sm2 : jSm u u2 := (jSm.rfl.wr E1).wr E2
    have fR : asTf T t w := (a0.trans ft.tf).trans d2
    have xk : jTt u2 33 (fAt C k) := (tU k hk.1 hk.2).ext X
    have xo : jTt u2 33 O := by rw [hO]; exact tO.ext X
    have F0 : Fls u2 C t T := hF.kp C0 (by omega) G X noA fun c a j hc => rfl
    obtain ⟨gk', nk', hbk, -, -⟩ := F0.1 k hk.1 hk.2
    have hbo : fB u2 (O + 1229) g' m := hb.kp (fun c a j a0 a1 => F _ _ _ (by omega)) (by rw [sm2.2.1]) (by rw [E2, E1]; exact (jEx.rfl.jp rfl).jp rfl)
    obtain ⟨q8, c1, c2, c3⟩ := c_copy hbo xo hbk xk (by unfold fAt; omega)
    have fk : fAt C k = C + 275 + 4041 + 1858 * k := rfl
    have gC : jGw u2 q8.1 0 0 (fun z => fAt C k + 1229 ≤ z ∧ z < fAt C k + 1229 + 2) := c2.gw
    have yK : ∀ c a j, c = 1000 ∧ T + 3 ≤ a → ¬ (T + 11 ≤ a) → ¬ a = T + 6 → jf w c a j = jf t c a j := fun c a j h0 h1 h2 => by
      rw [d8 _ _ _ (by omega) (by omega) (by omega), ft.2 _ _ _ (by omega) (by omega) (by omega) (by omega) (by omega) (by omega) (by omega), f0 _ _ _ (by omega)]
    have yT : ∀ a j, (a = T + 1 ∧ ¬ (8192 * k ≤ j ∧ j < 8192 * k + 8192) ∨ a = T + 2 ∧ ¬ j = k) → jf w 1000 a j = jf t 1000 a j := fun a j h0 => by
      rw [d8 _ _ _ (by omega) (by omega) (by omega), ft.2 _ _ _ (by omega) (by omega) (by omega) (by omega) (by omega) (by omega) (by omega), f0 _ _ _ (by omega)]
    have FF : Fls q8.1 C w T := by
      refine ⟨fun x x0 x1 => ?_, F0.2.kp c2 (by unfold fAt; omega) ?_ fun j => yK _ _ _ ⟨rfl, by omega⟩ (by omega) (by omega)⟩
      · by_cases cx : x = k
        · rw [cx]
          exact ⟨g', m, c3, d6, fun j j0 j1 => by rw [d7 j j0 j1]; exact hr j j0 j1⟩
        · exact (F0.1 x x0 x1).kp c2 (by unfold fAt; omega) fun a j ha => yT a j (by omega)
      · rw [d8 _ _ _ (by omega) (by omega) (by omega), ft.2 _ _ _ (by omega) (by omega) (by omega) (by omega) (by omega) (by omega) (by omega), f0 _ _ _ (by omega)]
    have X8 : jEx s q8.1 := X.trans c2.2
    have GA : jGw s q8.1 (40 * n + 720) (5400 * n + 16300) (rAs s C c k) := (G.trans gC (fun z _ hz => by
      rcases hz with (z1 | z1 | z1 | z1) | z1
      · exact .inl z1
      · exact .inr (.inl z1)
      · exact .inr (.inr (.inl z1))
      · exact .inr (.inr (.inr (.inl z1)))
      · exact .inr (.inr (.inr (.inr ⟨z1.1, by omega⟩)))) : jGw s q8.1 (40 * n + 720 + 0) (5400 * n + 16300 + 0) (rAs s C c k)).mono (by omega) (by omega) fun _ _ z => z
    have F1 : ∀ j, jf q8.1 1 C j = jf u2 1 C j := fun j => c2.F (by unfold fAt; omega) j
    refine ⟨(q8.1, false, m), (w, m), ?_, ?_, ⟨FF, ⟨by rw [F1, v9, d3], by rw [F1, v10, d4]⟩, fun j hj => by rw [F1]; exact vj j hj, GA, X8, fR, ?_⟩, .inl ⟨rfl, rfl, d5⟩⟩
    · rw [ec, e1, Option.bind_some]
      dsimp only
      rw [jth_ff, jls_e, ← E1, jls_e, ← E2, c1, Option.bind_some, c_fsize c3, Option.bind_some]
    · rw [ey, e2, d1]
    · have ax2 := xfr u u2 r w (fu.mono (Int.le_refl _) (Int.le_refl _) fun z z0 hz => by unfold rA0; omega) F sm2 ax fun c a j c1 c2 => d8 _ _ _ (by omega) (by omega) (by omega)
      have nu := G.1.1
      refine ax2.kp (by omega) gC (by omega) (fun z hz => ⟨by omega, ?_, by omega⟩) rfl fun a k ha => rfl
      rw [G.K (by omega)]
      exact hm z (by omega) (by omega)
end jAsm5
