/-! instructions by other forms, both sides -/
set_option maxRecDepth 100000
section jForms
variable {s t u w s1 t1 s0 r : jS} {v A H b lo k c a x y d n o j low kd e m p D B C J n0 v0 v1 v2 : Int} {kn i : Nat} {l : List Int} {NL : List (List Int)} {I : pI} {OL : List pvO} {SL : List pvS} {z : pvS} {zo : pvO} {Q Q' : jS → jS → Int → Prop} {xx : Option (jS × Bool × Int)} {yy : Option (jS × Int)} {Y : jS → Option (jS × Int)} {P : Prop}
/-- so many operands, of these sorts -/
abbrev arC (OL : List pvO) (z : pvS) (n0 v0 v1 v2 : Int) : Prop := z.2.2.2.1 = n0 ∧ (1 ≤ n0 → opSr v0 (tO OL z.2.2.1)) ∧ (2 ≤ n0 → opSr v1 (tO OL (z.2.2.1 + 1))) ∧ (3 ≤ n0 → opSr v2 (tO OL (z.2.2.1 + 2)))
theorem AG.sg1 (h : AG s t A H b lo NL I OL SL k z) (j0 : 0 ≤ j) (j1 : j < z.2.2.2.1) (q : (tO OL (z.2.2.1 + j)).1 = 1) : (tO OL (z.2.2.1 + j)).2.2.1 = 0 := (h.1.op j0 j1).2.2.2.1.2.2.2.2.2.1 (.inl q)
theorem AG.sg0 (h : AG s t A H b lo NL I OL SL k z) (j1 : 0 < z.2.2.2.1) (q : (tO OL z.2.2.1).1 = 1) : (tO OL z.2.2.1).2.2.1 = 0 := by
  have e0 : z.2.2.1 + 0 = z.2.2.1 := by omega
  have := h.sg1 (j := 0) (by omega) j1
  rw [e0] at this; exact this q
theorem tk_c (h : AG s t A H b lo NL I OL SL k z) (hi : i < 202) (hl : ptL (cS i)) (hf : (z.2.2.2.1 = (cS i).length ∧ tkA kd (cS i) OL z 0) ↔ P) : (P → m_X33_takes s A (jc s i) kd = some 1) ∧ (¬ P → m_X33_takes s A (jc s i) kd = some 0) := by
  obtain ⟨t1, t2⟩ := c_takes2 (kd := kd) h (h.con.str hi) hl
  exact ⟨fun p => t1 (hf.mpr p), fun p => t2 fun e => p (hf.mp e)⟩
theorem takE (h : AG s t A H b lo NL I OL SL k z) : (arC OL z 1 0 v1 v2 → m_X33_takes s A (jc s 47) kd = some 1) ∧ (¬ arC OL z 1 0 v1 v2 → m_X33_takes s A (jc s 47) kd = some 0) := tk_c (i := 47) h (by decide) (by unfold ptL; decide) (by
  show (z.2.2.2.1 = 1 ∧ tkA kd [69] OL z 0) ↔ _
  by_cases c : z.2.2.2.1 = 1
  · rw [tkA1 c, tk69]; unfold arC opSr; omega
  · exact ⟨fun e => absurd e.1 c, fun e => absurd e.1 c⟩)
theorem takR (h : AG s t A H b lo NL I OL SL k z) : (arC OL z 1 1 v1 v2 → m_X33_takes s A (jc s 57) kd = some 1) ∧ (¬ arC OL z 1 1 v1 v2 → m_X33_takes s A (jc s 57) kd = some 0) := tk_c (i := 57) h (by decide) (by unfold ptL; decide) (by
  show (z.2.2.2.1 = 1 ∧ tkA kd [82] OL z 0) ↔ _
  by_cases c : z.2.2.2.1 = 1
  · rw [tkA1 c, tk82]; have := h.sg0 (by omega); unfold arC opSr; omega
  · exact ⟨fun e => absurd e.1 c, fun e => absurd e.1 c⟩)
theorem takRE (h : AG s t A H b lo NL I OL SL k z) : (arC OL z 2 1 0 v2 → m_X33_takes s A (jc s 48) kd = some 1) ∧ (¬ arC OL z 2 1 0 v2 → m_X33_takes s A (jc s 48) kd = some 0) := tk_c (i := 48) h (by decide) (by unfold ptL; decide) (by
  show (z.2.2.2.1 = 2 ∧ tkA kd [82, 69] OL z 0) ↔ _
  by_cases c : z.2.2.2.1 = 2
  · rw [tkA2 c, tk82, tk69]; have := h.sg0 (by omega); unfold arC opSr; omega
  · exact ⟨fun e => absurd e.1 c, fun e => absurd e.1 c⟩)
theorem takRR (h : AG s t A H b lo NL I OL SL k z) : (arC OL z 2 1 1 v2 → m_X33_takes s A (jc s 56) kd = some 1) ∧ (¬ arC OL z 2 1 1 v2 → m_X33_takes s A (jc s 56) kd = some 0) := tk_c (i := 56) h (by decide) (by unfold ptL; decide) (by
  show (z.2.2.2.1 = 2 ∧ tkA kd [82, 82] OL z 0) ↔ _
  by_cases c : z.2.2.2.1 = 2
  · rw [tkA2 c, tk82, tk82]; have := h.sg0 (by omega); have := h.sg1 (j := 1) (by omega) (by omega); unfold arC opSr; omega
  · exact ⟨fun e => absurd e.1 c, fun e => absurd e.1 c⟩)
theorem takRRE (h : AG s t A H b lo NL I OL SL k z) : (arC OL z 3 1 1 0 → m_X33_takes s A (jc s 54) kd = some 1) ∧ (¬ arC OL z 3 1 1 0 → m_X33_takes s A (jc s 54) kd = some 0) := tk_c (i := 54) h (by decide) (by unfold ptL; decide) (by
  show (z.2.2.2.1 = 3 ∧ tkA kd [82, 82, 69] OL z 0) ↔ _
  by_cases c : z.2.2.2.1 = 3
  · rw [tkA3 c, tk82, tk82, tk69]; have := h.sg0 (by omega); have := h.sg1 (j := 1) (by omega) (by omega); unfold arC opSr; omega
  · exact ⟨fun e => absurd e.1 c, fun e => absurd e.1 c⟩)
theorem takRER (h : AG s t A H b lo NL I OL SL k z) : (arC OL z 3 1 0 1 → m_X33_takes s A (jc s 49) kd = some 1) ∧ (¬ arC OL z 3 1 0 1 → m_X33_takes s A (jc s 49) kd = some 0) := tk_c (i := 49) h (by decide) (by unfold ptL; decide) (by
  show (z.2.2.2.1 = 3 ∧ tkA kd [82, 69, 82] OL z 0) ↔ _
  by_cases c : z.2.2.2.1 = 3
  · rw [tkA3 c, tk82, tk69, tk82]; have := h.sg0 (by omega); have := h.sg1 (j := 2) (by omega) (by omega); unfold arC opSr; omega
  · exact ⟨fun e => absurd e.1 c, fun e => absurd e.1 c⟩)
theorem y_arY (h : AG s t A H b lo NL I OL SL k z) (c : arC OL z n0 v0 v1 v2) : m_X37_are t H n0 v0 v1 v2 = some (t, 1) := by rw [y_are h, if1 c]
theorem y_arN (h : AG s t A H b lo NL I OL SL k z) (c : ¬ arC OL z n0 v0 v1 v2) : m_X37_are t H n0 v0 v1 v2 = some (t, 0) := by rw [y_are h, if0 c]
/-- registers of operands -/
theorem AG.rb (h : AG s t A H b lo NL I OL SL k z) (j0 : 0 ≤ j) (j1 : j < z.2.2.2.1) (q : (tO OL (z.2.2.1 + j)).1 = 1) : 0 ≤ (tO OL (z.2.2.1 + j)).2.1 ∧ (tO OL (z.2.2.1 + j)).2.1 ≤ 31 := (h.1.op j0 j1).2.2.2.1.2.2.2.1 (.inl q)
theorem y_rg0 (h : AG s t A H b lo NL I OL SL k z) (j1 : 0 < z.2.2.2.1) : m_X37_registerOf t H (jf t 41 H 45) = some (t, (tO OL (z.2.2.1 + 0)).2.1) := by
  have e0 : z.2.2.1 + 0 = z.2.2.1 := by omega
  have := y_rgst h (j := 0) (by omega) j1
  rw [e0] at this ⊢; rw [h.2.1.2.1]; exact this
theorem y_rgj (h : AG s t A H b lo NL I OL SL k z) (j0 : 0 ≤ j) (j1 : j < z.2.2.2.1) : m_X37_registerOf t H (W32 (jf t 41 H 45 + j)) = some (t, (tO OL (z.2.2.1 + j)).2.1) := by
  obtain ⟨o1, o2, o3, og, o5⟩ := h.1.op j0 j1
  have st0 := h.1.st0
  rw [h.2.1.2.1, W32_in (by omega) (by omega)]; exact y_rgst h j0 j1
theorem vQ.ks (h : vQ s t A H j u w) : kS H t w := by
  obtain ⟨-, h2, -⟩ := h
  exact ⟨h2 _ _ _ (by omega) (by omega), h2 _ _ _ (by omega) (by omega), h2 _ _ _ (by omega) (by omega), fun i => h2 _ _ _ (by omega) (by omega)⟩
theorem started_e (h : AG s t A H b lo NL I OL SL k z) (hI : inI H t) : ∃ s0 t0, m_X33_started s A = some (s0, 0) ∧ AG s0 t0 A H b lo NL I OL SL k z ∧ jf s0 37 A 35 = jf s 37 A 35 ∧ ∀ a i, jf s0 1000 a i = jf s 1000 a i := by
  obtain ⟨u1, w1, e1, e2, e3, e4, e5, e6, e7, e8⟩ := started3 h hI
  exact ⟨u1, w1, e1, e3, e8 _ _ _ (by omega) (by omega), fun a i => e8 _ _ _ (by omega) (by omega)⟩
theorem finG {G : jS × Int → Option (jS × Int)} (h : stO s t A H b lo NL I OL SL k z xx yy Q) (g0 : ∀ r, G (r, 0) = some (r, 0)) (g1 : ∀ r, G (r, 1) = some (r, 1)) : stO s t A H b lo NL I OL SL k z xx (yy.bind G) Q := by
  rcases h with ⟨q, r, e1, e2, e3⟩ | ⟨u', w', v', d1, d2, d3, d4, d5, d6⟩
  · exact .inl ⟨q, r, e1, by rw [e2, Option.bind_some]; exact g0 r, e3⟩
  · exact .inr ⟨u', w', v', d1, by rw [d2, Option.bind_some]; exact g1 _, d3, d4, d5, d6⟩
theorem tE1 (r : jS) : (if (r, (1 : Int)).2 = 0 then some ((r, (1 : Int)).1, Wz 0) else some ((r, (1 : Int)).1, Wz 1)) = some (r, 1) := by rw [if_neg n10, Wz_1]
theorem tW1 (r : jS) : some ((r, (1 : Int)).1, Wz (r, (1 : Int)).2) = some (r, 1) := by rw [Wz_1]
/-- a jump or branch to a place -/
theorem jumpd {F G : jS × Int → Option (jS × Int)} (h : AG s t A H b lo NL I OL SL k z) (hI : inI H t) (ht : m_X33_takes s A x kn = some 1) (hk : kn < 48) (D0 : 0 ≤ D ∧ D ≤ 31) (B0 : 0 ≤ B ∧ B ≤ 31) (C0 : 0 ≤ C ∧ C ≤ 31) (ho : o = if (kn : Int) = 2 then 17 else 16) (j0 : 0 ≤ j) (j1 : j + 1 = z.2.2.2.1) (hs : (tO OL (z.2.2.1 + j)).1 = 0) (hJ : J = z.2.2.1 + j)
    (g0 : ∀ r, G (r, 0) = some (r, 0)) (g1 : ∀ r, G (r, 1) = some (r, 1)) (hF0 : ∀ r, F (r, 0) = some (r, 0)) (hY : ∀ {u w}, AG u w A H b lo NL I OL SL k z → F (w, 1) = (m_X37_oneMoved w H kn D B C o).bind G) :
    stO s t A H b lo NL I OL SL k z (m_X33_jumped s A x kn D B C) ((m_X37_placed t H J).bind F) (inQ t H) := by
  subst hJ
  obtain ⟨o1, o2, o3, og, o5⟩ := h.1.op j0 (by omega)
  have st0 := h.1.st0
  have hm := h.2.1.2.2.1
  rw [em_X33_jumped]; unfold dm_X33_jumped
  rw [ht, Option.bind_some, needOk n10]
  dsimp only
  rw [jth_ff, hm, W32_in (by omega) (by omega), show z.2.2.2.1 - 1 = j by omega]
  refine (placed2 h j0 (by omega) (.inl hs)).bind (fun _ _ => rfl) hF0 fun u w v g c1 c2 ⟨q, q1, q2⟩ => ?_
  dsimp only
  rw [jth_ff, hY g]
  have I' := hI.ks q.ks
  obtain ⟨u0, w0, e1, -⟩ := started3 g I'
  rw [e1, Option.bind_some]
  dsimp only
  refine finG (stO.mono (jmpC (R := fun u' => if (kn : Int) = 2 then u_X33_jumped_58 u' A 17 A else u_X33_jumped_58 u' A 16 A) g I' e1 hk D0 B0 C0 (o := o) (by rw [ho]; split <;> omega) j0 (by omega) q.2.2.1 q.2.2.2.1 fun u' hu => ?_) (inQ.of q.ks.1)) g0 g1
  have m35 : jf u' 37 A 35 = z.2.2.2.1 := by rw [hu, g.2.1.2.2.1]
  have key : ∀ o', u_X33_jumped_58 u' A o' A = (jlt u' 1000 (A + 21) 800 j).bind fun v1 => (jlt u' 1000 (A + 20) 800 j).bind fun v2 => (m_X33_move u' A o' (jf u' 37 A 32) v1 v2).bind fun q3 => jth q3.2.1 (some (q3.1, true, q3.2.2)) (some (q3.1, false, 0)) := fun o' => by
    rw [eu_X33_jumped_58]; unfold du_X33_jumped_58
    rw [m35, W32_in (by omega) (by omega), show z.2.2.2.1 - 1 = j by omega]
  rw [key, key, ho]
  by_cases c : (kn : Int) = 2
  · rw [if_pos c, if_pos c]
  · rw [if_neg c, if_neg c]
/-- a jump by a register -/
theorem returnd (h : AG s t A H b lo NL I OL SL k z) (hI : inI H t) (hc : arC OL z 1 1 v1 v2) (D0 : 0 ≤ D ∧ D ≤ 31) : stO s t A H b lo NL I OL SL k z (m_X33_returned s A D) (m_X37_one t H 3 D (tO OL (z.2.2.1 + 0)).2.1 0 0) (inQ t H) := by
  have e0 : z.2.2.1 + 0 = z.2.2.1 := by omega
  have hs : (tO OL (z.2.2.1 + 0)).1 = 1 := by rw [e0]; exact (hc.2.1 (by decide)).1
  have rb := h.rb (j := 0) (by decide) (by have := hc.1; omega) hs
  rw [em_X33_returned]; unfold dm_X33_returned
  rw [(takR (v1 := v1) (v2 := v2) h).1 hc, Option.bind_some, needOk n10]
  dsimp only
  obtain ⟨s0, t0, e1, e2, -⟩ := started_e h hI
  rw [jth_ff, e1, Option.bind_some]
  dsimp only
  rw [c_rgst e2 (by decide) (by have := hc.1; omega), Option.bind_some]
  exact finC (sumW (kn := 3) h hI e1 (by decide) (gd48 (by decide) D0 rb ⟨by decide, by decide⟩ (gd0 (by decide))) (rg4 D0 rb ⟨by decide, by decide⟩ ⟨by decide, by decide⟩)) inQ.any
/-- two words to a place -/
theorem fard {F : jS × Int → Option (jS × Int)} (h : AG s t A H b lo NL I OL SL k z) (hI : inI H t) (ht : m_X33_takes s A x kn = some 1) (hk : 10 ≤ kn ∧ kn < 15 ∧ arC OL z 2 1 0 v2 ∨ 15 ≤ kn ∧ kn < 18 ∧ arC OL z 3 1 0 1) (hJ : J = z.2.2.1 + 1)
    (hF0 : ∀ r, F (r, 0) = some (r, 0)) (hY : ∀ {u w}, AG u w A H b lo NL I OL SL k z → F (w, 1) = if kn < 15 then (m_X37_word w H kn (tO OL (z.2.2.1 + 0)).2.1 (tO OL (z.2.2.1 + 0)).2.1 0 0).bind fun q4 => (m_X37_pair q4.1 H (tO OL (z.2.2.1 + 0)).2.1 q4.2 24).bind fun q5 => if q5.2 = 0 then some (q5.1, Wz 0) else some (q5.1, Wz 1) else (m_X37_word w H kn 0 (tO OL (z.2.2.1 + 2)).2.1 (tO OL (z.2.2.1 + 0)).2.1 0).bind fun q4 => (m_X37_pair q4.1 H (tO OL (z.2.2.1 + 2)).2.1 q4.2 25).bind fun q5 => if q5.2 = 0 then some (q5.1, Wz 0) else some (q5.1, Wz 1)) :
    stO s t A H b lo NL I OL SL k z (m_X33_far s A kn x) ((m_X37_placed t H J).bind F) (inQ t H) := by
  subst hJ
  have e0 : z.2.2.1 + 0 = z.2.2.1 := by omega
  have z31 : (0 : Int) ≤ 0 ∧ (0 : Int) ≤ 31 := ⟨by decide, by decide⟩
  have hn : 2 ≤ z.2.2.2.1 := by rcases hk with ⟨-, -, q, -⟩ | ⟨-, -, q, -⟩ <;> omega
  have s0 : (tO OL (z.2.2.1 + 0)).1 = 1 := by
    rw [e0]; rcases hk with ⟨-, -, q⟩ | ⟨-, -, q⟩
    · exact (q.2.1 (by decide)).1
    · exact (q.2.1 (by decide)).1
  have s1 : (tO OL (z.2.2.1 + 1)).1 = 0 := by
    rcases hk with ⟨-, -, q⟩ | ⟨-, -, q⟩
    · exact (q.2.2.1 (by decide)).1
    · exact (q.2.2.1 (by decide)).1
  have r0 := h.rb (j := 0) (by decide) (by omega) s0
  rw [em_X33_far]; unfold dm_X33_far
  rw [ht, Option.bind_some, needOk n10]
  dsimp only
  rw [jth_ff]
  refine (placed2 h (j := 1) (by decide) (by omega) (.inl s1)).bind (fun _ _ => rfl) hF0 fun u w v g c1 c2 ⟨q, q1, q2⟩ => ?_
  dsimp only
  rw [jth_ff, hY g]
  have I' := hI.ks q.ks
  obtain ⟨s0', t0, e1, e2, -⟩ := started_e g I'
  rw [e1, Option.bind_some]
  dsimp only
  by_cases c15 : kn < 15
  · rw [if_pos (show (kn : Int) < 15 by omega), if_pos c15, c_rgst e2 (by decide) (by omega), Option.bind_some, Option.bind_some]
    have := finE (twC (low := 24) g I' e1 (show kn < 48 by omega) r0 r0 z31 (by decide) (j := 1) (by decide) (by decide) q.2.2.1 q.2.2.2.1) inQ.any
    rw [Option.bind_assoc] at this
    exact this.mono (inQ.of q.ks.1)
  · have hr := hk.resolve_left fun e => c15 e.2.1
    have s2 : (tO OL (z.2.2.1 + 2)).1 = 1 := (hr.2.2.2.2.2 (by decide)).1
    have r2 := h.rb (j := 2) (by decide) (by have := hr.2.2.1; omega) s2
    rw [if_neg (show ¬ (kn : Int) < 15 by omega), if_neg c15, c_rgst e2 (by decide) (by have := hr.2.2.1; omega), Option.bind_some, c_rgst e2 (by decide) (by omega), Option.bind_some]
    have := finE (twC (low := 25) g I' e1 (show kn < 48 by omega) z31 r2 r0 (by decide) (j := 1) (by decide) (by decide) q.2.2.1 q.2.2.2.1) inQ.any
    rw [Option.bind_assoc] at this
    exact this.mono (inQ.of q.ks.1)
/-- a number is loaded -/
theorem ldN {D n : Int} (h : AG s t A H b lo NL I OL SL k z) (hI : inI H t) (hst : m_X33_started s A = some (s0, 0)) (D0 : 0 ≤ D ∧ D ≤ 31) (hn : jin n) :
    stO s t A H b lo NL I OL SL k z (if I_shr (I_shl n 20) 20 = n then (m_X33_sum s0 A 18 D 0 n).bind fun q7 => jth q7.2.1 (some (q7.1, true, q7.2.2)) (some (q7.1, false, 0)) else (m_X2_word s0 (A + (-4147)) 0 D 0 0 (I_ushr (W32 (n + 2048)) 12)).bind fun q8 => jth q8.2.1 (some (q8.1, true, q8.2.2)) ((m_X33_word q8.1 A q8.2.2).bind fun q9 => jth q9.2.1 (some (q9.1, true, q9.2.2)) (if I_shr (I_shl n 20) 20 = 0 then some (q9.1, false, 0) else (m_X33_sum q9.1 A 18 D D (I_shr (I_shl n 20) 20)).bind fun q10 => jth q10.2.1 (some (q10.1, true, q10.2.2)) (some (q10.1, false, 0))))) (m_X37_loadNumber t H D n) (inQ t H) := by
  have z31 : (0 : Int) ≤ 0 ∧ (0 : Int) ≤ 31 := ⟨by decide, by decide⟩
  have lb := lo_in (x := n)
  have i18 : ∀ {v}, -2048 ≤ v → v ≤ 2047 → (cFd 18 3).1 = 0 ∨ fMay (cFd 18 3) v := fun {v} a b => .inr ((fimm_k v 18 (by decide) (by decide)).mpr (imm_lo (kd := 18) a b (by omega)))
  have eq : I_shr (I_shl n 20) 20 = n ↔ -2048 ≤ n ∧ n ≤ 2047 := by
    constructor
    · intro e; rw [e] at lb; exact lb
    · intro q
      have h1 := i_shl_p (x := n) (y := 20) (by decide) (by decide)
      have h2 : I_shl n 20 = n * 1048576 := by
        rw [h1]
        show W32 (n * 1048576) = _
        exact W32_in (by omega) (by omega)
      rw [h2, i_shr_p (by constructor <;> omega) (by decide) (by decide)]
      show n * 1048576 / 1048576 = n
      omega
  rw [em_X37_loadNumber]; unfold dm_X37_loadNumber
  by_cases c : I_shr (I_shl n 20) 20 = n
  · have q := eq.mp c
    rw [if_pos c, if_neg (by omega), if_pos (by omega)]
    exact finW (sumW (kn := 18) h hI hst (by decide) (gd48 (by decide) D0 z31 z31 (i18 q.1 q.2)) (rg4 D0 z31 z31 (by unfold rgJ; omega))) inQ.any
  rw [if_neg c]
  have e25 : (if n < -2048 then u_X37_loadNumber_25 t H D n else if n < 2048 then (m_X37_one t H 18 D 0 0 n).bind fun q1 => some (q1.1, Wz q1.2) else u_X37_loadNumber_25 t H D n) = u_X37_loadNumber_25 t H D n := by
    by_cases c1 : n < -2048
    · rw [if_pos c1]
    · rw [if_neg c1, if_neg fun e => c (eq.mpr ⟨by omega, by omega⟩)]
  rw [e25, eu_X37_loadNumber_25]; unfold du_X37_loadNumber_25
  obtain ⟨u1, w1, e1, e2, e3, e4, e5, e6, e7, e8⟩ := started3 h hI
  rw [hst] at e1
  have es : s0 = u1 := congrArg Prod.fst (Option.some.inj e1)
  subst es
  rw [e2, Option.bind_some]
  dsimp only
  have he := hi_eq (x := W32 (n + 2048)) (W32_lo _)
  rw [if_neg n10, e_X37_highOf, Option.bind_some, ← he.1]
  refine stO.pre ?_ e4 e5
  have i0 : (cFd 0 3).1 = 0 ∨ fMay (cFd 0 3) (I_ushr (W32 (n + 2048)) 12) := .inr ((fimm_k _ 0 (by decide) (by decide)).mpr (imm_hi (kd := 0) he.2.1 he.2.2 (by decide) (by decide)))
  refine wordP (kn := 0) e3 e7.1 (by decide) (gd48 (by decide) D0 z31 z31 i0) (rg4 D0 z31 z31 (by unfold rgJ; omega)) (fun _ _ => rfl) (fun r => tw0 r) fun u w d g q => ?_
  dsimp only
  rw [jth_ff, if_neg n10, e_X37_lowOf, Option.bind_some, Option.bind_some]
  have st := e6.trans q
  by_cases c0 : I_shr (I_shl n 20) 20 = 0
  · rw [if_pos c0, if_pos c0, Wz_1]
    refine .ret g ?_
    have := st.2.2
    unfold inQ; omega
  rw [if_neg c0, if_neg c0, em_X33_sum]; unfold dm_X33_sum
  have q34 : jf w 41 H 34 = 0 := by rw [q.2.1 _ _ _ (by omega) (by omega) (by omega)]; exact e7.1
  refine finC (wordP (kn := 18) (Q := inQ t H) g q34 (by decide) (gd48 (by decide) D0 D0 z31 (i18 lb.1 lb.2)) (rg4 D0 D0 z31 (by unfold rgJ; omega)) (fun _ _ => rfl) (fun r => tw0 r) fun u w d g q => ?_) inQ.any
  dsimp only
  rw [jth_ff, if_neg n10, Wz_1]
  refine .ret g ?_
  have := (st.trans q).2.2
  unfold inQ; omega
end jForms
