/-! tell and letter, about -/
section jTell
variable {s t u : jS} {W V P Q f : Int} {l m : List Int}
theorem tab_nm : ∀ k : Nat, k < 75 → nmL (v_X38_nameOf k) = cS (73 + k) ∧ 0 ≤ v_X38_nameOf k ∧ v_X38_nameOf k < 419430400000000000 ∧ (cS (73 + k)).length ≤ 10 ∧ v_X38_patternOf k = (cKd k).1 ∧ 0 ≤ (cKd k).1 ∧ (cKd k).1 ≤ 16 := by decide +kernel
theorem tab_wh : cS 163 = [46] ++ nmL 1496724 ++ [32] ∧ cS 164 = [46] ++ nmL 514086 ++ [32] := by decide +kernel
theorem jGw.sm (h : jSm s t) {A : Int → Prop} (hf : ∀ c a k, ¬ A a → jf t c a k = jf s c a k) : jGw s t 0 0 A := by
  obtain ⟨h1, h2, h3, h4, h5, h6, h7⟩ := h
  exact ⟨⟨by omega, by omega, by omega, h5, h6, h7⟩, fun a _ => ⟨by rw [h1], by rw [h2]⟩, fun c a k _ q => hf c a k q⟩
/-- the words of the component and of the twin: rows, names, the last text -/
def pWs (s : jS) (W : Int) (t : jS) (V : Int) : Prop := pWd s W ∧ pWn s W ∧ pRows t (V + 1) ∧ (jf s 8 (W + 26) 0 < W + 23 ∨ W + 25 < jf s 8 (W + 26) 0) ∧ ∃ l f, pSb s (W + 26) l 80 ∧ pTx t V l f
/-- what may be written of the component's -/
def wA (s : jS) (W : Int) : Int → Prop := fun y => y = W + 26 ∨ y = jf s 8 (W + 26) 0
/-- the component at work on its text -/
def oB (s u : jS) (W : Int) (l : List Int) (P Q : Int) : Prop := pSb u (W + 26) l 80 ∧ jGw s u P Q (wA s W) ∧ (jf u 8 (W + 26) 0 = jf s 8 (W + 26) 0 ∨ jn s ≤ jf u 8 (W + 26) 0)
theorem wA_tr {W : Int} (hv : jf u 8 (W + 26) 0 = jf s 8 (W + 26) 0 ∨ jn s ≤ jf u 8 (W + 26) 0) : ∀ a, a < jn s → wA s W a ∨ wA u W a → wA s W a := fun a ha z => by
  rcases z with z | z
  · exact z
  · rcases z with z | z
    · exact .inl z
    · rcases hv with q | q
      · exact .inr (by rw [z, q])
      · omega
theorem oB.str (h : oB s u W l P Q) {a : Int} (g : pSg u a m) (hv : ¬ jF u a 0 = jf u 8 (W + 26) 0) (hl : (l.length : Int) + m.length ≤ 80) (hB : jBd s (P + 1) (Q + 162)) :
    jE (m_J1_append u (W + 26) a) fun r => r.2 = W + 26 ∧ oB s r.1 W (l ++ m) (P + 1) (Q + 162) := by
  obtain ⟨h1, h2, h3⟩ := h
  refine jE_mono (s_append h1 g (by omega) hl hv (hB.gw h2)) fun r ⟨r1, r2, r3, r4⟩ => ⟨r1, r2, h2.trans r3 (wA_tr h3), ?_⟩
  have := h2.n
  rcases r4 with q | q
  · rw [q]; exact h3
  · exact .inr (by omega)
theorem oB.chr (h : oB s u W l P Q) {c : Int} (hc : 0 ≤ c ∧ c < 256) (hl : (l.length : Int) + 1 ≤ 80) (hB : jBd s (P + 1) (Q + 162)) :
    jE (m_J1_append_3 u (W + 26) c) fun r => r.2 = W + 26 ∧ oB s r.1 W (l ++ [c]) (P + 1) (Q + 162) := by
  obtain ⟨h1, h2, h3⟩ := h
  refine jE_mono (s_putc h1 (by omega) hl hc (hB.gw h2)) fun r ⟨r1, r2, r3, r4⟩ => ⟨r1, r2, h2.trans r3 (wA_tr h3), ?_⟩
  have := h2.n
  rcases r4 with q | q
  · rw [q]; exact h3
  · exact .inr (by omega)
theorem oB.grow {P' Q' : Int} (h : oB s u W l P Q) (g : jGw u t P' Q' (fun _ => False)) : oB s t W l (P + P') (Q + Q') ∧ jf t 8 (W + 26) 0 = jf u 8 (W + 26) 0 := by
  obtain ⟨h1, h2, h3⟩ := h
  obtain ⟨k1, k2⟩ := h1.keep g (fun z => z) (fun z => z)
  exact ⟨⟨k1, h2.trans g (fun a _ z => by rcases z with z | z; exact z; exact z.elim), by rw [k2]; exact h3⟩, k2⟩
theorem wA_k (h : pSb s (W + 26) l 80) (hv : jf s 8 (W + 26) 0 < W + 23 ∨ W + 25 < jf s 8 (W + 26) 0) : ∀ a, wA s W a → (jK s a = 8 ∨ jK s a = 1001) ∧ (a < W + 23 ∨ W + 25 < a) := fun a z => by
  rcases z with z | z
  · rw [z]; exact ⟨.inl h.1.2.2, by omega⟩
  · rw [z]; exact ⟨.inr h.2.2.2.1.2.2, hv⟩
theorem wA_c (h : pSb s (W + 26) l 80) : ∀ a, wA s W a → jK s a < 3000 := fun a z => by
  rcases z with z | z
  · rw [z, h.1.2.2]; omega
  · rw [z, h.2.2.2.1.2.2]; omega
/-- a text is emptied -/
theorem oB_new (h : pSb s (W + 26) l 80) : jE (m_J1_setLength s (W + 26) 0) fun r => r.2.1 = false ∧ oB s r.1 W [] 0 0 :=
  jE_mono (s_empty h (by omega)) fun r ⟨r1, r2, r3, r4⟩ => ⟨r1, r2, r3.mono (by omega) (by omega) (fun _ _ z => .inl z), .inl r4⟩
/-- what tell leaves -/
def tellQ (s : jS) (W : Int) (t : jS) (V : Int) (r : jS × Bool × Int) (q : jS × Int) : Prop := r.2.1 = false ∧ r.2.2 = q.2 ∧ pWs r.1 W q.1 V ∧ jGw s r.1 80 4000 (wA s W) ∧ (jf r.1 8 (W + 26) 0 = jf s 8 (W + 26) 0 ∨ jn s ≤ jf r.1 8 (W + 26) 0) ∧ jFm t q.1 V 4
theorem tell_end (hW : pWd s W) (hN : pWn s W) (hv : jf s 8 (W + 26) 0 < W + 23 ∨ W + 25 < jf s 8 (W + 26) 0) (h0 : pSb s (W + 26) m 80) (h : oB s u W l P Q) (hP : P ≤ 80) (hQ : Q ≤ 4000) {z : jS} (g : pTx z V l f) (hR : pRows z (V + 1)) (hF : jFm t z V 4) :
    jE2 (u_X2_tell_121 u W) (some (z, jf z 42 V 4)) (tellQ s W t V) := by
  obtain ⟨h1, h2, h3⟩ := h
  rw [eu_X2_tell_121]; unfold du_X2_tell_121
  rw [s_blen h1, Option.bind_some]
  obtain ⟨k1, k2⟩ := hW.gw hN h2 (wA_k h0 hv)
  refine jE2_some.mpr ⟨rfl, g.1.symm, ⟨k1, k2, hR, ?_, l, f, h1, g⟩, h2.mono hP hQ (fun _ _ z => z), h3, hF⟩
  have := hN.2.1
  show jf u 8 (W + 26) 0 < W + 23 ∨ W + 25 < jf u 8 (W + 26) 0
  rcases h3 with q | q
  · rw [q]; exact hv
  · exact .inr (by omega)
theorem oB.con {l0 : List Int} (h : oB s u W l P Q) (hC : pCon s) (hb : pSb s (W + 26) l0 80) {i : Nat} (hi : i < 202) (hl : (l.length : Int) + (cS i).length ≤ 80) (hB : jBd s (P + 1) (Q + 162)) :
    jE (m_J1_append u (W + 26) (jc s i)) fun r => r.2 = W + 26 ∧ oB s r.1 W (l ++ cS i) (P + 1) (Q + 162) := by
  obtain ⟨g1, g2, g3⟩ := (hC.1 i hi).keep h.2.1 (wA_c hb)
  exact h.str g1 (fun z => by have := h.1.2.2.2.1.2.2; rw [← z, g3] at this; omega) hl hB
theorem pTx.rows {z : jS} (h : pRows t (V + 1)) (g : tFr t z V) : pRows z (V + 1) := fun i i0 i1 => by rw [g.2 _ _ _ (by omega) (by omega)]; exact h i i0 i1
theorem tFr.fm {z : jS} (g : tFr t z V) : jFm t z V 4 := ⟨g.1, fun c a k q => g.2 c a k (by omega) (by omega)⟩
theorem p_tell (h : pWs s W t V) (hC : pCon s) (h0 : 0 ≤ jn s) (hB : jBd s 80 4000) {w pl : Int} (hw : -2147483648 ≤ w ∧ w ≤ 2147483647) : jE2 (m_X2_tell s W w pl) (m_X38_tell t V w pl) (tellQ s W t V) := by
  obtain ⟨hW, hN, hR, hv, l0, f0, hb, hx⟩ := h
  obtain ⟨kd, c1, c2⟩ := c_kind hW.1 hw
  rw [em_X2_tell, em_X38_tell]; unfold dm_X2_tell dm_X38_tell
  rw [c1, Option.bind_some, s_X2_whole, Option.bind_some]
  obtain ⟨q3, e3, q31, ho⟩ := oB_new hb
  rw [e3, Option.bind_some, q31]
  simp only [jth, jls, jzb_in (Or.inl rfl), Option.bind_some, Bool.false_eq_true, if_false]
  have hR3 : pRows (jp (jp (jp t 42 V 0 0) 42 V 4 0) 42 V 5 0) (V + 1) := fun i i0 i1 => by
    rw [jf_jp, if_neg (by omega), jf_jp, if_neg (by omega), jf_jp, if_neg (by omega)]; exact hR i i0 i1
  have hx3 : pTx (jp (jp (jp t 42 V 0 0) 42 V 4 0) 42 V 5 0) V [] 0 := ⟨by rw [jf_jp, if_neg (by omega), jf_jp, if_pos ⟨rfl, rfl, rfl⟩]; rfl, by show 0 ≤ 80; omega, by rw [jf_jp, if_pos ⟨rfl, rfl, rfl⟩], fun i hi => absurd hi (Nat.not_lt_zero _)⟩
  have hF3 : jFm t (jp (jp (jp t 42 V 0 0) 42 V 4 0) 42 V 5 0) V 4 := by (repeat' (first | exact jFm.rfl | refine jFm.jp ?_ (by omega) (by omega)))
  generalize jp (jp (jp t 42 V 0 0) 42 V 4 0) 42 V 5 0 = t3 at hR3 hx3 hF3 ⊢
  obtain ⟨p, r, f1, f2, f3⟩ := t_find hR3 hw
  have hr := isKd_one f2 c2
  subst hr
  rw [f1, Option.bind_some]
  have hx4 : tC (pw4 t3 (V + 2) p) (pw4 t3 (V + 2) p) V [] 0 p 0 := ⟨⟨by rw [jf_pw4, if_neg (by omega)]; exact hx3.1, hx3.2.1, by rw [jf_pw4, if_neg (by omega)]; exact hx3.2.2.1, fun i hi => absurd hi (Nat.not_lt_zero _)⟩, tFr.rfl, Nat.le_refl _, fun e e0 e1 => by rw [jlt_in e0 e1, jf_pw4, if_pos ⟨rfl, rfl, e0, e1⟩]⟩
  have hR4 : pRows (pw4 t3 (V + 2) p) (V + 1) := pRows_pw4 hR3 (by omega)
  have hF4 : jFm t (pw4 t3 (V + 2) p) V 4 := ⟨hF3.1, fun c a k q => by rw [jf_pw4, if_neg (by omega)]; exact hF3.2 c a k q⟩
  generalize pw4 t3 (V + 2) p = t4 at hx4 hR4 hF4 ⊢
  clear hR3 hx3 hF3 f1
  have hL := hxL_len (pWh w)
  have hA := wA_k hb hv
  have done : ∀ (u : jS) (l : List Int) (P Q f : Int) (z : jS) (N : Nat), oB s u W l P Q → P ≤ 80 → Q ≤ 4000 → tC t4 z V l f p N → jE2 (u_X2_tell_121 u W) (some (z, jf z 42 V 4)) (tellQ s W t V) := fun u l P Q f z N o hP hQ g => tell_end hW hN hv hb o hP hQ g.1 (pTx.rows hR4 g.2.1) (hF4.trans g.2.1.fm)
  by_cases k1 : r = -1
  · rw [if_pos k1, if_pos k1, e_X2_size, Option.bind_some, ho.2.1.c]
    obtain ⟨z1, g1, h1⟩ := hx4.say (c := 46) (by omega)
    rw [g1, Option.bind_some, e_X38_isLong, Option.bind_some]
    -- ".word " or ".half "
    have main : ∀ (ci : Nat) (nv : Int), ci < 202 → cS ci = [46] ++ nmL nv ++ [32] → (nmL nv).length = 4 → 0 ≤ nv → nv < 419430400000000000 →
        (∀ z2 : jS, m_X38_sayName z1 V nv = some (z2, 0) → ∀ z3 : jS, m_X38_say z2 V 32 = some (z3, 0) → ∀ z4 : jS, m_X38_sayHexadecimal z3 V (pWh w) = some (z4, 0) → u_X38_tell_71 z1 V w nv V = some (z4, jf z4 42 V 4)) →
        jE2 (u_X2_tell_47 q3.1 W pl r (pWh w) (jc s ci) (W + 26)) (u_X38_tell_71 z1 V w nv V) (tellQ s W t V) := by
      intro ci nv hci hcs hnl n0 n1 htw
      have hcl : (cS ci).length = 6 := by rw [hcs, List.length_append, List.length_append, hnl]; rfl
      -- the twin
      obtain ⟨z2, g2, x2, y2⟩ := t_sayName n0 n1 h1.1 (by rw [hnl]; show 1 + 4 ≤ 80; omega)
      have h2 := h1.of (N := 5) x2 y2 (by rw [List.length_append, hnl]; show 1 + 4 ≤ 5; omega)
      obtain ⟨z3, g3, h3⟩ := h2.say (c := 32) (by omega)
      have h33 := h3.2.2.1
      obtain ⟨z4, g4, x4, y4⟩ := t_sayHex (w := pWh w) h3.1 (by omega)
      have h4 := h3.of (N := 16) x4 y4 (by rw [List.length_append]; omega)
      rw [htw z2 g2 z3 g3 z4 g4]
      rw [eu_X2_tell_47]; unfold du_X2_tell_47
      obtain ⟨r1, e1, r12, o1⟩ := ho.con hC hb hci (by rw [hcl]; show (0 : Int) + 6 ≤ 80; omega) (hB.le (by omega) (by omega))
      rw [e1, Option.bind_some, r12]
      obtain ⟨r2, e2, n1', n2', n3', n4', -⟩ := c_hex (s := r1.1) (w := pWh w) (hC.keep o1.2.1 (wA_c hb)) (by have := o1.2.1.n; omega) (jBd.gw (hB.le (p' := 0 + 1 + 13) (q' := 0 + 162 + 250) (by omega) (by omega)) o1.2.1)
      rw [e2, Option.bind_some]
      obtain ⟨o2, v2⟩ := o1.grow n4'
      obtain ⟨r3, e3', r32, o3⟩ := o2.str n1' (by rw [v2]; have := o1.1.2.2.2.1.2.1; omega) (by rw [List.length_append, hcl]; show ((0 + 6 : Nat) : Int) + _ ≤ 80; omega) (hB.le (by omega) (by omega))
      rw [jct_in o2.1.tt, e3', Option.bind_some, eu_X2_tell_79]; unfold du_X2_tell_79
      rw [if_pos k1]
      rw [List.nil_append, hcs] at o3
      exact done _ _ _ _ _ _ _ o3 (by omega) (by omega) h4
    by_cases w3 : I_and w 3 = 3
    · rw [if_pos w3, if_pos rfl, if_pos w3, if_neg (by omega)]
      refine main 163 1496724 (by omega) tab_wh.1 (by decide +kernel) (by omega) (by omega) fun z2 a2 z3 a3 z4 a4 => ?_
      have hwh : pWh w = w := by unfold pWh; rw [I_and_3] at w3; rw [if_pos w3]
      rw [hwh] at a4
      rw [eu_X38_tell_71]; unfold du_X38_tell_71
      rw [a2, Option.bind_some, a3, Option.bind_some, e_X38_isLong, if_pos w3, Option.bind_some, if_neg (by omega), eu_X38_tell_97]; unfold du_X38_tell_97
      rw [a4, Option.bind_some]
    · rw [if_neg w3, if_neg (by omega), if_neg w3, if_pos rfl]
      refine main 164 514086 (by omega) tab_wh.2 (by decide +kernel) (by omega) (by omega) fun z2 a2 z3 a3 z4 a4 => ?_
      have hwh : pWh w = I_and w 65535 := by unfold pWh; rw [I_and_3] at w3; rw [if_neg w3, I_and_65535]
      rw [hwh] at a4
      rw [eu_X38_tell_71]; unfold du_X38_tell_71
      rw [a2, Option.bind_some, a3, Option.bind_some, e_X38_isLong, if_neg w3, Option.bind_some, if_pos rfl, eu_X38_tell_97]; unfold du_X38_tell_97
      rw [a4, Option.bind_some]
  · obtain ⟨r0, r1, r2, -, -⟩ := isKd_t f2 k1
    obtain ⟨b1, b2, b3, b4, b5, b6, b7⟩ := tab_nm r.toNat (by omega)
    rw [show ((r.toNat : Nat) : Int) = r by omega] at b1 b2 b3 b5
    rw [if_neg k1, if_neg k1]
    -- the twin
    obtain ⟨z1, g1, x1, y1⟩ := t_sayName b2 b3 hx4.1 (by rw [b1]; show 0 + _ ≤ 80; omega)
    have h1 := hx4.of (N := 10) x1 y1 (by rw [List.length_append, b1]; show 0 + _ ≤ 10; omega)
    have hpr := part_rng (k := r.toNat) (by omega) r2
    have hp := f3 k1
    rw [← hp] at hpr
    obtain ⟨z2, N, g2, hN2, h2⟩ := t_opers (d := p.1) (a := p.2.1) (b := p.2.2.1) (i := p.2.2.2) (pl := pl) (pt := (cKd r.toNat).1) (n := 10) h1 (by omega) hpr.1 hpr.2.1 hpr.2.2.1 hpr.2.2.2 ⟨b6, b7⟩
    rw [e_X38_nameOf, Option.bind_some, g1, Option.bind_some, e_X38_patternOf, Option.bind_some, b5, g2, Option.bind_some]
    -- the component
    obtain ⟨kW, kN⟩ := hW.gw hN ho.2.1 hA
    have e8 : ∀ (u : jS) (P Q : Int), jGw s u P Q (wA s W) → jf u 1008 (W + 23) r = jf s 1008 (W + 23) r := fun u P Q g => g.2.2 _ _ _ (by have := hN.2.1; omega) fun z => by have := hA _ z; omega
    have hK := fun (u : jS) (P Q : Int) (g : jGw s u P Q (wA s W)) => (hW.gw hN g hA).1.1.at r0 r1
    have hName : ∀ (u : jS) (P Q : Int), jGw s u P Q (wA s W) → jrd u 11 (jf u 1008 (W + 23) r) 0 = some (jc s (73 + r.toNat : Nat)) := fun u P Q g => by
      have ha := (hK u P Q g).2
      have hn := ((hW.gw hN g hA).2.2.2 r.toNat (by omega)).1
      rw [show ((r.toNat : Nat) : Int) = r by omega, g.c] at hn
      rw [jrd_in (c := 11) ha.1.1 (show jK u _ = 11 from ha.1.2.2.1), hn]
    have hPat : ∀ (u : jS) (P Q : Int), jGw s u P Q (wA s W) → jrd u 11 (jf u 1008 (W + 23) r) 1 = some (cKd r.toNat).1 := fun u P Q g => by
      have ha := (hK u P Q g).2
      rw [jrd_in (c := 11) ha.1.1 (show jK u _ = 11 from ha.1.2.2.1), ha.2.1]
    rw [(hK _ _ _ ho.2.1).1, Option.bind_some, hName _ _ _ ho.2.1, Option.bind_some]
    obtain ⟨r1', e1, r12, o1⟩ := ho.con hC hb (i := 73 + r.toNat) (by omega) (by show (0 : Int) + _ ≤ 80; omega) (hB.le (by omega) (by omega))
    rw [List.nil_append] at o1
    rw [e1, Option.bind_some, eu_X2_tell_79]; unfold du_X2_tell_79
    rw [if_neg k1, (hK _ _ _ o1.2.1).1, Option.bind_some, hPat _ _ _ o1.2.1, Option.bind_some]
    rw [List.nil_append, b1] at h2
    by_cases k2 : (cKd r.toNat).1 = 0
    · rw [if_neg (by omega)]
      rw [if_pos k2, List.append_nil] at h2
      exact done _ _ _ _ _ _ _ o1 (by omega) (by omega) h2
    · rw [if_pos (by omega)]
      rw [if_neg k2] at h2
      obtain ⟨q3', e3', r32, o2⟩ := o1.chr (c := 32) (by omega) (by omega) (hB.le (by omega) (by omega))
      rw [e3', Option.bind_some, (hK _ _ _ o2.2.1).1, Option.bind_some, r32]
      obtain ⟨kW2, kN2⟩ := hW.gw hN o2.2.1 hA
      obtain ⟨r5, e5, n1', n2', n3'⟩ := c_opers (s := q3'.1) (pl := pl) (hC.keep o2.2.1 (wA_c hb)) (by have := o2.2.1.n; omega) kW2 kN2 hw f2 k1 (by omega) (jBd.gw (hB.le (p' := 0 + 1 + 1 + 60) (q' := 0 + 162 + 162 + 3000) (by omega) (by omega)) o2.2.1)
      rw [e5, Option.bind_some]
      rw [← hp] at n1'
      obtain ⟨o3, v3⟩ := o2.grow n2'
      have hlen := h2.2.2.1
      rw [List.length_append, List.length_cons] at hlen
      obtain ⟨r6, e6, r62, o4⟩ := o3.str n1' (by
        rw [v3]
        have := o2.1.2.2.2.1
        rcases n3' with q | q
        · intro z
          rw [z, n2'.K this.2.1, this.2.2] at q; omega
        · omega) (by rw [List.length_append]; show ((_ + 1 : Nat) : Int) + _ ≤ 80; omega) (hB.le (by omega) (by omega))
      rw [jct_in o3.1.tt, e6, Option.bind_some]
      rw [List.append_assoc] at o4
      exact done _ _ _ _ _ _ _ o4 (by omega) (by omega) h2
theorem p_letter (h : pWs s W t V) (k : Int) : jE2 (m_X2_letter s W k) (m_X38_letter t V k) fun r q => r = q.2 ∧ pWs s W q.1 V ∧ jFm t q.1 V 4 := by
  obtain ⟨hW, hN, hR, hv, l, f, hb, hx⟩ := h
  have hw : pWs s W (jp t 42 V 0 0) V := ⟨hW, hN, fun i i0 i1 => by rw [jf_jp, if_neg (by omega)]; exact hR i i0 i1, hv, l, f, hb, ⟨by rw [jf_jp, if_neg (by omega)]; exact hx.1, hx.2.1, by rw [jf_jp, if_neg (by omega)]; exact hx.2.2.1, fun i hi => by rw [jf_jp, if_neg (by omega)]; exact hx.2.2.2 i hi⟩⟩
  have hF : jFm t (jp t 42 V 0 0) V 4 := by (repeat' (first | exact jFm.rfl | refine jFm.jp ?_ (by omega) (by omega)))
  rw [em_X2_letter, em_X38_letter]; unfold dm_X2_letter dm_X38_letter
  simp only [jls]
  rw [jf_jp, if_neg (show ¬ ((42 : Int) = 42 ∧ V = V ∧ (4 : Int) = 0) by omega), hx.1]
  by_cases c : k < 0
  · rw [if_pos c, if_pos c]; exact jE2_some.mpr ⟨rfl, hw, hF⟩
  · rw [if_neg c, if_neg c, s_blen hb, Option.bind_some]
    have h80 := hx.2.1
    by_cases d : k < l.length
    · rw [if_pos d, if_pos d, s_bcharAt hb (by omega) (by omega) d, Option.bind_some, jlt_in (by omega) (by omega), Option.bind_some, jf_jp, if_neg (by omega)]
      refine jE2_some.mpr ⟨?_, hw, hF⟩
      have := hx.2.2.2 k.toNat (by omega)
      rw [show ((k.toNat : Nat) : Int) = k by omega] at this
      exact this.symm
    · rw [if_neg d, if_neg d]; exact jE2_some.mpr ⟨rfl, hw, hF⟩
end jTell
