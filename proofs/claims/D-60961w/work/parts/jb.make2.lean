/-! the object comes to be written: symbols' names *-/
set_option maxRecDepth 100000
section jMake2
variable {s t u w s0 t0 : jS} {v A H b lo k c a x y n j m i O X Y z T P Q N f : Int} {o o' : Int → Int → Int → Int} {d : Int → Int} {l : List Int} {NL : List (List Int)} {I : pI} {OL : List pvO} {SL : List pvS}
/-- the maker lies apart from the book *-/
def mkH (s : jS) (O b lo : Int) : Prop := (∀ z, O ≤ z → z < O + 1858 → ¬ (jK s z = 62 ∨ jK s z = 63 ∨ jK s z = 9 ∨ 3000 ≤ jK s z)) ∧ (b + 5 < O ∧ 0 ≤ b) ∧ O + 1858 ≤ lo ∧ O + 1858 ≤ jn s
theorem mkH.gw (h : mkH s O b lo) (g : jGw s u X Y fun z => O ≤ z ∧ z < O + 1858) : mkH u O b lo := by
  obtain ⟨h1, h2, h3, h4⟩ := h
  have := g.1.1
  exact ⟨fun z z0 z1 => by rw [g.K (by omega)]; exact h1 z z0 z1, h2, h3, by omega⟩
theorem cBk.rg (h : cBk s T b lo NL I OL SL) (hm : mkH s O b lo) (hT : 0 ≤ T ∧ T < O) (g : jGw s u X Y fun z => O ≤ z ∧ z < O + 1858) : cBk u T b lo NL I OL SL := by
  obtain ⟨h1, h2⟩ := h
  obtain ⟨m1, m2, m3, m4⟩ := hm
  exact ⟨by rw [g.2.2 _ _ _ (by omega) (by omega)]; exact h1, h2.keep g fun z hz => ⟨by omega, by have := m1 z hz.1 hz.2; exact this, fun _ => by omega⟩⟩
theorem tNa_ok (h : bGd NL I OL SL) (h0 : 0 ≤ k) (h1 : k < NL.length) : (tNa NL k).length ≤ 16 ∧ ∀ c ∈ tNa NL k, 0 ≤ c := by
  obtain ⟨i, rfl, hm⟩ := nat_of h0
  have gd : nmGd (tNa NL (i : Int)) := h.1 _ (by
    unfold tNa
    rw [hm, List.getD_eq_getElem?_getD, List.getElem?_eq_getElem (by omega)]
    exact List.getElem_mem _)
  exact ⟨gd.2.1, fun c hc => by have := gd.2.2 c hc; omega⟩
/-- a symbol's name, the component *-/
theorem c_spell (hA : A = O + 3872) (hC : pCon s) (hB : jBd s 6 150) (hk : cBk s (A + (-3890)) b lo NL I OL SL) (hg : bGd NL I OL SL) (hm : mkH s O b lo) (hM : cMk s O o d) (hT : 0 ≤ A + (-3890)) (hN : 0 ≤ N ∧ N < jn s ∧ jK s N = 38 ∧ (N < O ∨ O + 1858 ≤ N)) (hf : jf s 38 N 0 = f) (f0 : -100 ≤ f) (f1 : f < NL.length) : ∃ u, m_X33_name s A N = some (u, 0) ∧ cMk u O o ((syL NL f).foldl dL d) ∧ jGw s u 6 150 fun z => O ≤ z ∧ z < O + 1858 := by
  obtain ⟨m1, m2, m3, m4⟩ := hm
  have hn : 0 ≤ jn s := by omega
  rw [em_X33_name]; unfold dm_X33_name
  rw [jrd_in hN.1 hN.2.2.1, Option.bind_some, hf]
  by_cases c : f < 0
  rotate_left
  · rw [if_neg c]
    obtain ⟨q1, q2⟩ := tNa_ok (k := f) hg (by omega) f1
    obtain ⟨u, e1, e2, e3⟩ := c_nm1 (l := tNa NL f) (v := f) (x := N) hA (by omega) q2 (tNa NL f).length s d 0 (by omega) hM fun u g => ⟨by
      rw [jrd_in hN.1 (by rw [g.K hN.2.1]; exact hN.2.2.1), g.2.2 _ _ _ hN.2.1 (by omega), hf], fun j j0 => c_name (hk.rg ⟨m1, m2, m3, m4⟩ ⟨hT, by omega⟩ g) (by omega) f1 j0⟩
    refine ⟨u, e1, ?_, e3.gwR.mono (by omega) (by omega) fun _ _ z => z⟩
    unfold syL
    rw [if_neg c]; exact e2
  rw [if_pos c]
  have hd := decL_le (-1 - f)
  obtain ⟨s1, t1, e1, e2, h1⟩ := bc_new (M := 20) hn (by omega) (hB.le (by omega) (by omega))
  rw [e1, Option.bind_some, e2, Option.bind_some, h1.2.1.c]
  have c72 : cS 72 = [36] := rfl
  obtain ⟨r, ea, r1, r2⟩ := bc_old h1 (hC.str (i := 72) (by omega)) (by omega) (by rw [c72]; show (0 : Int) + 1 ≤ 20; omega) (hB.le (by omega) (by omega))
  rw [List.nil_append] at r2
  have ea : m_J1_append t1 (jn s) (jc s 72) = some r := ea
  dsimp only
  rw [ea, Option.bind_some, jrd_in hN.1 (by rw [r2.2.1.K hN.2.1]; exact hN.2.2.1), Option.bind_some, r2.2.1.2.2 _ _ _ hN.2.1 id, hf, r1, jct_in r2.1.tt, W32_in (by omega) (by omega)]
  obtain ⟨q, eb, q1, q2⟩ := bc_int (c := -1 - f) r2 hC (by omega) (by omega) (by rw [c72]; show (1 : Int) + _ ≤ 20; omega) (hB.le (by omega) (by omega))
  rw [eb, Option.bind_some, q1, jct_in q2.1.tt]
  obtain ⟨p, ec, p1, p2, p3, p4, p5⟩ := bc_end q2 (by omega) (hB.le (by omega) (by omega))
  rw [ec, Option.bind_some]
  have el : cS 72 ++ decL (-1 - f) = syL NL f := by unfold syL; rw [if_pos c, c72]; rfl
  rw [el] at p1
  have g : jGw s p.1 6 150 fun _ => False := p4.mono (by omega) (by omega) fun _ _ z => z
  have hl : ((syL NL f).length : Int) ≤ 1000 := by rw [← el, c72, List.length_append]; show (((1 + _ : Nat) : Int)) ≤ 1000; omega
  obtain ⟨u, i1, i2, i3⟩ := c_nm2 (x := p.2) hA hl (syL NL f).length p.1 d 0 (by omega) (hM.gw0 g m4) p1 (fun z hz => by
    rw [jF_k p5.1] at hz; rw [jF_k p5.1] at p3; omega) (by omega)
  refine ⟨u, i1, i2, ?_⟩
  exact (g.trans i3.gwR fun a _ z => z.elim False.elim id : jGw s u (6 + 0) (150 + 0) _)
/-- a symbol's name, the twin *-/
theorem t_spell (hX : X = H + 25) (hk : yBk t (H + 8) NL I OL SL) (hg : bGd NL I OL SL) (hM : tMk t X o d) (f0 : -100 ≤ f) (f1 : f < NL.length) : ∃ w, m_X37_spell t H (nSyh f) = some (w, 0) ∧ tMk w X o ((syL NL f).foldl dL d) ∧ tMf t w X := by
  rw [em_X37_spell]; unfold dm_X37_spell nSyh syL
  by_cases c : 0 ≤ f
  · rw [if_pos c, if_neg (by omega), if_neg (by omega)]
    obtain ⟨q1, q2⟩ := tNa_ok (k := f) hg c f1
    have key : ∀ (m : Nat) (t : jS) (d : Int → Int) (i : Nat), i + m = (tNa NL f).length → yBk t (H + 8) NL I OL SL → tMk t X o d → ∃ w, u_X37_spell_6 t H f (i : Int) = some (w, 0) ∧ tMk w X o (((tNa NL f).drop i).foldl dL d) ∧ tMf t w X := by
      intro m
      induction m with
      | zero =>
        intro t d i hi hk hM
        refine ⟨t, ?_, by rw [List.drop_eq_nil_of_le (by omega)]; exact hM, tMf.rfl⟩
        rw [eu_X37_spell_6]; unfold du_X37_spell_6
        refine jlpW_r (r := some (t, 0)) ?_
        show b_X37_spell_6 t H f i = _
        unfold b_X37_spell_6
        have e : nmQ (tNa NL f) i = -1 := by unfold nmQ; rw [if_neg (by omega)]
        rw [y_qname hk c f1 (by omega), Option.bind_some, e, if_pos rfl]
      | succ m ih =>
        intro t d i hi hk hM
        have il : i < (tNa NL f).length := by omega
        have e : nmQ (tNa NL f) i = (tNa NL f).getD i 0 := by unfold nmQ; rw [if_pos (by omega)]; rfl
        have cm : ¬ (tNa NL f).getD i 0 = -1 := by
          have := q2 ((tNa NL f).getD i 0) (by rw [List.getD_eq_getElem?_getD, List.getElem?_eq_getElem il]; exact List.getElem_mem _)
          omega
        obtain ⟨r, e1, e2, e3⟩ := t_let (c := (tNa NL f).getD i 0) hM
        have hk' : yBk r.1 (H + 8) NL I OL SL := ⟨by rw [e3.2 _ _ _ (by omega)]; exact hk.1, hk.2.cg fun a j ha j0 j1 => e3.2 _ _ _ (by omega)⟩
        have st : jc3 b_X37_spell_6 [H, f, (i : Int)] t = some (.inl (r.1, [H, f, ((i + 1 : Nat) : Int)])) := by
          show b_X37_spell_6 t H f i = _
          unfold b_X37_spell_6
          rw [y_qname hk c f1 (by omega), Option.bind_some, e, if_neg cm, y_qname hk c f1 (by omega), Option.bind_some, e, ← hX]
          dsimp only
          rw [e1, Option.bind_some, W32_in (by omega) (by omega)]; rfl
        obtain ⟨w, i1, i2, i3⟩ := ih r.1 _ (i + 1) (by omega) hk' e2
        refine ⟨w, ?_, by rw [drop_c il]; exact i2, e3.trans i3⟩
        rw [eu_X37_spell_6] at i1 ⊢; unfold du_X37_spell_6 at i1 ⊢
        rw [jlpW_l st]; exact i1
    exact key (tNa NL f).length t d 0 (by omega) hk hM
  rw [if_neg c, if_pos (by omega), if_pos (by omega)]
  simp only [jlet]
  obtain ⟨k, hk1, hk2⟩ : ∃ k : Nat, (k : Int) = -1 - f ∧ k < 100 := ⟨(-1 - f).toNat, by omega, by omega⟩
  rw [W32_in (z := -2 - (f - 1)) (by omega) (by omega), show -2 - (f - 1) = (k : Int) by omega, ← hk1, dec2 k hk2, ← hX]
  obtain ⟨r, e1, e2, e3⟩ := t_let (c := 36) hM
  rw [e1, Option.bind_some]
  have last : ∀ (t : jS) (d : Int → Int), tMk t X o d → ∃ w, u_X37_spell_79 t H k = some (w, 0) ∧ tMk w X o (dL d (48 + (k : Int) % 10)) ∧ tMf t w X := fun t d h => by
    obtain ⟨r, e1, e2, e3⟩ := t_let (c := 48 + (k : Int) % 10) h
    refine ⟨r.1, ?_, e2, e3⟩
    rw [eu_X37_spell_79]; unfold du_X37_spell_79
    rw [jdv_in (by decide), Option.bind_some, I_rem_n (by omega) (by omega) (by decide) (by decide), W32_in (by omega) (by omega), ← hX, e1, Option.bind_some]
  by_cases c9 : 9 < k
  · rw [if_pos (show 9 < (k : Int) by omega), if_pos c9, jdv_in (by decide), Option.bind_some, I_div_n (by omega) (by omega) (by decide) (by decide), W32_in (by omega) (by omega)]
    obtain ⟨r2, i1, i2, i3⟩ := t_let (c := 48 + (k : Int) / 10) e2
    rw [i1, Option.bind_some]
    obtain ⟨w, j1, j2, j3⟩ := last r2.1 _ i2
    exact ⟨w, j1, j2, (e3.trans i3).trans j3⟩
  · rw [if_neg (show ¬ 9 < (k : Int) by omega), if_neg c9]
    obtain ⟨w, j1, j2, j3⟩ := last r.1 _ e2
    rw [show (k : Int) % 10 = k by omega] at j2
    exact ⟨w, j1, j2, e3.trans j3⟩
end jMake2
