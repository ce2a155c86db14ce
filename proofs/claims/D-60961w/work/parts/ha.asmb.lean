/-! the assembler: values of operands, both sides *-/
section jAsmb
variable {s t u v w s1 t1 : jS} {A H b lo N k i j o c a n p X Y d e m x y J : Int} {NL : List (List Int)} {I : pI} {OL : List pvO} {SL : List pvS} {z : pvS} {q : jS × Bool × Int} {r : jS}
/-- a loop that looks for one -/
theorem jscan {R : Type} {C : List Int → jS → Option ((jS × List Int) ⊕ R)} (V : Int → List Int) (P : Int → Prop) (lo hi : Int) (hn : lo ≤ hi) {rb re : Option R} (h1 : ∀ k, lo ≤ k → k < hi → ¬ P k → C (V k) s = some (.inl (s, V (k + 1)))) (h2 : ∀ k, lo ≤ k → k < hi → P k → C (V k) s = jinr rb) (h3 : C (V hi) s = jinr re) : ((∀ k, lo ≤ k → k < hi → ¬ P k) → jlpW C (V lo) s = re) ∧ ((∃ k, lo ≤ k ∧ k < hi ∧ P k) → jlpW C (V lo) s = rb) := by
  have key : ∀ (m : Nat) (k : Int), lo ≤ k → k ≤ hi → hi - k = m → ((∀ j, k ≤ j → j < hi → ¬ P j) → jlpW C (V k) s = re) ∧ ((∃ j, k ≤ j ∧ j < hi ∧ P j) → jlpW C (V k) s = rb) := by
    intro m
    induction m with
    | zero =>
      intro k k0 k1 hm
      have : k = hi := by omega
      subst this
      exact ⟨fun _ => jlpW_r h3, fun ⟨j, j0, j1, _⟩ => by omega⟩
    | succ m ih =>
      intro k k0 k1 hm
      by_cases c : P k
      · exact ⟨fun z => absurd c (z k (Int.le_refl _) (by omega)), fun _ => jlpW_r (h2 k k0 (by omega) c)⟩
      · rw [jlpW_l (h1 k k0 (by omega) c)]
        obtain ⟨a1, a2⟩ := ih (k + 1) (by omega) (by omega) (by omega)
        refine ⟨fun z => a1 fun j j0 j1 => z j (by omega) j1, fun ⟨j, j0, j1, hj⟩ => a2 ⟨j, ?_, j1, hj⟩⟩
        by_cases cj : j = k
        · subst cj; exact absurd hj c
        · omega
  exact key (hi - lo).toNat lo (Int.le_refl _) hn (by omega)
/-- a local with no label -/
def lcP (t : jS) (H : Int) (I : pI) (k : Int) : Prop := (tI I k).1 = 2 ∧ (tI I k).2 % 2 = 0 ∧ jf t 1000 (H + 149) ((tI I k).2 / 2) = -1
theorem tI_gd (h : itsG N I) (h0 : 0 ≤ i) (h1 : i < I.length) : itGd N (tI I i) := by
  unfold tI
  refine h _ ?_
  rw [List.getD_eq_getElem?_getD, List.getElem?_eq_getElem (by omega)]
  exact List.getElem_mem _
theorem c_locs {f : Int} (h : AR s t A H b lo NL I OL SL k z) (f0 : 0 ≤ f) (n0 : 0 ≤ n) (hfn : f + n ≤ I.length) (he : m_X33_needAt s A 0 13 j = some q) (hq : q = (q.1, true, q.2.2)) : ((∀ i, f ≤ i → i < f + n → ¬ lcP t H I i) → u_X33_value_33 s A j f n f = u_X33_value_110 s A j f n) ∧ ((∃ i, f ≤ i ∧ i < f + n ∧ lcP t H I i) → u_X33_value_33 s A j f n f = some q) := by
  have hI := h.1.1.2.2.2.1
  have i2000 := h.2.1.1.2.2.2.1.2.1
  have hG := h.1.2.2.2.2.2.2.1
  obtain ⟨aS, aT, -⟩ := h.2.2.2.1
  rw [eu_X33_value_33]; unfold du_X33_value_33
  have ev : ∀ i, jc5 b_X33_value_33 [A, j, f, n, i] s = b_X33_value_33 s A j f n i := fun i => rfl
  refine jscan (fun i => [A, j, f, n, i]) (lcP t H I) f (f + n) (by omega) (fun i i0 i1 hp => ?_) (fun i i0 i1 hp => ?_) ?_
  · rw [ev]; unfold b_X33_value_33
    have it := c_item h.1.1 (k := i) (by omega) (by omega) i2000 (.inl rfl)
    have it1 := c_item h.1.1 (k := i) (by omega) (by omega) i2000 (.inr rfl)
    rw [if_pos rfl] at it
    rw [if_neg (by decide)] at it1
    have e93 : u_X33_value_93 s A j f n i A = some (.inl (s, [A, j, f, n, i + 1])) := by
      rw [eu_X33_value_93]; unfold du_X33_value_93
      rw [eu_X33_value_98]; unfold du_X33_value_98
      rw [needAt1 (by decide), Option.bind_some]
      show jth false _ _ = _
      rw [jth_ff, W32_in (by omega) (by omega)]
    rw [W32_in (by omega) (by omega), if_pos i1, it, Option.bind_some]
    by_cases c2 : (tI I i).1 = 2
    rotate_left
    · rw [if_neg c2]; exact e93
    have gd := tI_gd hG (i := i) (by omega) (by omega)
    have v0 : 0 ≤ (tI I i).2 ∧ (tI I i).2 ≤ 19 := by unfold itGd at gd; omega
    rw [if_pos c2, it1, Option.bind_some, jdv_in (by decide), Option.bind_some, I_rem_n v0.1 (by omega) (by decide) (by decide)]
    by_cases c1 : (tI I i).2 % 2 = 1
    · rw [if_pos c1]; exact e93
    rw [if_neg c1, Option.bind_some, jdv_in (by decide), Option.bind_some, I_div_n v0.1 (by omega) (by decide) (by decide), jlt_in (by omega) (by omega), Option.bind_some]
    have l1 := (aT.2 ((tI I i).2 / 2) (by omega) (by omega)).1.1
    have hne : ¬ jf s 1000 (A + 15) ((tI I i).2 / 2) = -1 := fun zz => hp ⟨c2, by omega, by rw [← l1]; exact zz⟩
    rw [if_neg hne]; exact e93
  · obtain ⟨c2, c0, cn⟩ := hp
    rw [ev]; unfold b_X33_value_33
    have it := c_item h.1.1 (k := i) (by omega) (by omega) i2000 (.inl rfl)
    have it1 := c_item h.1.1 (k := i) (by omega) (by omega) i2000 (.inr rfl)
    rw [if_pos rfl] at it
    rw [if_neg (by decide)] at it1
    have gd := tI_gd hG (i := i) (by omega) (by omega)
    have v0 : 0 ≤ (tI I i).2 ∧ (tI I i).2 ≤ 19 := by unfold itGd at gd; omega
    have l1 := (aT.2 ((tI I i).2 / 2) (by omega) (by omega)).1.1
    rw [W32_in (by omega) (by omega), if_pos i1, it, Option.bind_some, if_pos c2, it1, Option.bind_some, jdv_in (by decide), Option.bind_some, I_rem_n v0.1 (by omega) (by decide) (by decide), if_neg (by omega), Option.bind_some, jdv_in (by decide), Option.bind_some, I_div_n v0.1 (by omega) (by decide) (by decide), jlt_in (by omega) (by omega), Option.bind_some, if_pos (by rw [l1]; exact cn), eu_X33_value_98]; unfold du_X33_value_98
    rw [he, Option.bind_some, hq]; rfl
  · rw [ev]; unfold b_X33_value_33
    rw [W32_in (by omega) (by omega), if_neg (by omega)]
theorem y_locs {f : Int} (h : AR s t A H b lo NL I OL SL k z) (o1 : 0 ≤ J) (o2 : J < OL.length) (hf : (tO OL J).2.2.2.1 = f) (hn : (tO OL J).2.2.2.2.1 = n) (f0 : 0 ≤ f) (n0 : 0 ≤ n) (hfn : f + n ≤ I.length) (he : m_X37_fail_2 t H 13 (opQ1 (tO OL J) 5) = some (r, 0)) : ((∀ i, f ≤ i → i < f + n → ¬ lcP t H I i) → m_X37_areLocalsThere t H J = some (t, 1)) ∧ ((∃ i, f ≤ i ∧ i < f + n ∧ lcP t H I i) → m_X37_areLocalsThere t H J = some (r, 0)) := by
  have hI := h.2.1.1
  have i2000 := h.2.1.1.2.2.2.1.2.1
  have hG := h.1.2.2.2.2.2.2.1
  obtain ⟨aS, aT, -⟩ := h.2.2.2.1
  rw [em_X37_areLocalsThere]; unfold dm_X37_areLocalsThere
  rw [y_operand hI o1 o2 (by decide) (by decide), Option.bind_some, y_operand hI o1 o2 (by decide) (by decide), Option.bind_some]
  show (_ → u_X37_areLocalsThere_23 t H J (tO OL J).2.2.2.1 (tO OL J).2.2.2.2.1 (tO OL J).2.2.2.1 = _) ∧ (_ → u_X37_areLocalsThere_23 t H J (tO OL J).2.2.2.1 (tO OL J).2.2.2.2.1 (tO OL J).2.2.2.1 = _)
  rw [hf, hn, eu_X37_areLocalsThere_23]; unfold du_X37_areLocalsThere_23
  have ev : ∀ i, jc5 b_X37_areLocalsThere_23 [H, J, f, n, i] t = b_X37_areLocalsThere_23 t H J f n i := fun i => rfl
  refine jscan (fun i => [H, J, f, n, i]) (lcP t H I) f (f + n) (by omega) (fun i i0 i1 hp => ?_) (fun i i0 i1 hp => ?_) ?_
  · rw [ev]; unfold b_X37_areLocalsThere_23
    have it := y_item hI (k := i) (by omega) (by omega) (.inl rfl)
    have it1 := y_item hI (k := i) (by omega) (by omega) (.inr rfl)
    rw [if_pos rfl] at it
    rw [if_neg (by decide)] at it1
    have e89 : u_X37_areLocalsThere_89 t H J f n i = some (.inl (t, [H, J, f, n, i + 1])) := by
      rw [eu_X37_areLocalsThere_89]; unfold du_X37_areLocalsThere_89
      rw [W32_in (by omega) (by omega)]
    rw [W32_in (by omega) (by omega), if_pos i1, it1, Option.bind_some, it, Option.bind_some]
    show (if (tI I i).1 = 2 then _ else _) = _
    by_cases c2 : (tI I i).1 = 2
    rotate_left
    · rw [if_neg c2]; exact e89
    have gd := tI_gd hG (i := i) (by omega) (by omega)
    have v0 : 0 ≤ (tI I i).2 ∧ (tI I i).2 ≤ 19 := by unfold itGd at gd; omega
    rw [if_pos c2, jdv_in (by decide), Option.bind_some, I_rem_n v0.1 (by omega) (by decide) (by decide)]
    by_cases c1 : (tI I i).2 % 2 = 0
    rotate_left
    · rw [if_neg c1]; exact e89
    rw [if_pos c1, jdv_in (by decide), Option.bind_some, I_div_n v0.1 (by omega) (by decide) (by decide), jlt_in (by omega) (by omega), Option.bind_some]
    have hne : ¬ jf t 1000 (H + 149) ((tI I i).2 / 2) = -1 := fun zz => hp ⟨c2, by omega, zz⟩
    rw [if_neg hne]; exact e89
  · obtain ⟨c2, c0, cn⟩ := hp
    rw [ev]; unfold b_X37_areLocalsThere_23
    have it := y_item hI (k := i) (by omega) (by omega) (.inl rfl)
    have it1 := y_item hI (k := i) (by omega) (by omega) (.inr rfl)
    rw [if_pos rfl] at it
    rw [if_neg (by decide)] at it1
    have gd := tI_gd hG (i := i) (by omega) (by omega)
    have v0 : 0 ≤ (tI I i).2 ∧ (tI I i).2 ≤ 19 := by unfold itGd at gd; omega
    rw [W32_in (by omega) (by omega), if_pos i1, it1, Option.bind_some, it, Option.bind_some]
    show (if (tI I i).1 = 2 then _ else _) = _
    rw [if_pos c2, jdv_in (by decide), Option.bind_some, I_rem_n v0.1 (by omega) (by decide) (by decide), if_pos c0, jdv_in (by decide), Option.bind_some, I_div_n v0.1 (by omega) (by decide) (by decide), jlt_in (by omega) (by omega), Option.bind_some, if_pos cn, eu_X37_areLocalsThere_77]; unfold du_X37_areLocalsThere_77
    rw [y_placeOf h.2.1 o1 o2, Option.bind_some, he, Option.bind_some, Wz_0]
  · rw [ev]; unfold b_X37_areLocalsThere_23
    rw [W32_in (by omega) (by omega), if_neg (by omega), Wz_1]
/-- items one behind the other -/
theorem itemsLoop : ∀ (m : Nat) (i : Nat) (s t : jS) (n : Int), AR s t A H b lo NL I OL SL k z → astk s t A H n → rpX I m i n → i + m ≤ I.length → n + m ≤ 60 → NL.length ≤ 150 → jf s 37 A 34 = z.2.2.1 → 0 ≤ j → j < z.2.2.2.1 → ∀ f l : Int, f + l = ((i + m : Nat) : Int) → (∀ x : Nat, i ≤ x → x < i + m → ¬ lcP t H I x) →
    (∃ q r, u_X33_value_118 s A j f l i = some q ∧ u_X37_evaluate_36 t H (z.2.2.1 + j) f l n i = some (r, 0) ∧ aBad s t A H q r) ∨
    (∃ u w, u_X33_value_118 s A j f l i = u_X33_value_157 u A j ∧ u_X37_evaluate_36 t H (z.2.2.1 + j) f l n i = u_X37_evaluate_142 w H ∧ AR u w A H b lo NL I OL SL k z ∧ cFa A s u 0 0 ∧ tF H t w ∧ vaU A s u ∧ vaV H t w ∧ astk u w A H 1 ∧ syK H t w)
  | 0, i, s, t, n, h, st, rp, hi, hn, mN, hf, j0, j1, f, l, hfl, lc => by
    right
    have n1 : n = 1 := rp
    subst n1
    have i2000 := h.2.1.1.2.2.2.1.2.1
    refine ⟨s, t, ?_, ?_, h, cFa.rfl, tF.rfl, vaU.rfl, vaV.rfl, st, syK.rfl⟩
    · rw [eu_X33_value_118]; unfold du_X33_value_118
      refine jlpW_r ?_
      show b_X33_value_118 s A j f l i = _
      unfold b_X33_value_118
      rw [hfl, W32_in (by omega) (by omega), if_neg (by omega)]
    · rw [eu_X37_evaluate_36]; unfold du_X37_evaluate_36
      refine jlpW_r ?_
      show b_X37_evaluate_36 t H (z.2.2.1 + j) f l 1 i = _
      unfold b_X37_evaluate_36
      rw [hfl, W32_in (by omega) (by omega), if_neg (by omega)]
  | m + 1, i, s, t, n, h, st, rp, hi, hn, mN, hf, j0, j1, f, l, hfl, lc => by
    have i2000 := h.2.1.1.2.2.2.1.2.1
    have hG := h.1.2.2.2.2.2.2.1
    have gd := tI_gd hG (i := (i : Int)) (by omega) (by omega)
    have eI : tI I (i : Int) = I.getD i (0, 0) := by unfold tI; rw [Int.toNat_natCast]
    have it := c_item h.1.1 (k := (i : Int)) (by omega) (by omega) i2000 (.inl rfl)
    have it1 := c_item h.1.1 (k := (i : Int)) (by omega) (by omega) i2000 (.inr rfl)
    rw [if_pos rfl] at it
    rw [if_neg (by decide)] at it1
    have yt := y_item h.2.1.1 (k := (i : Int)) (by omega) (by omega) (.inl rfl)
    have yt1 := y_item h.2.1.1 (k := (i : Int)) (by omega) (by omega) (.inr rfl)
    rw [if_pos rfl] at yt
    rw [if_neg (by decide)] at yt1
    have rp' : (if (tI I (i : Int)).1 < 10 then rpX I m (i + 1) (n + 1) else if (tI I (i : Int)).1 < 12 then 1 ≤ n ∧ rpX I m (i + 1) n else 2 ≤ n ∧ rpX I m (i + 1) (n - 1)) := by rw [eI]; exact rp
    generalize hz : tI I (i : Int) = zz at *
    obtain ⟨o, v⟩ := zz
    have n0 := st.2.1
    rw [eu_X33_value_118, eu_X37_evaluate_36]; unfold du_X33_value_118 du_X37_evaluate_36
    have ex : ∀ y, jc5 b_X33_value_118 [A, j, f, l, y] s = b_X33_value_118 s A j f l y := fun y => rfl
    have ey : ∀ y n, jc6 b_X37_evaluate_36 [H, z.2.2.1 + j, f, l, n, y] t = b_X37_evaluate_36 t H (z.2.2.1 + j) f l n y := fun y n => rfl
    have bx : b_X33_value_118 s A j f l i = (m_X33_item s A o v j).bind fun q3 => jth q3.2.1 (jinr (some (q3.1, true, q3.2.2))) (some (.inl (q3.1, [A, j, f, l, ((i + 1 : Nat) : Int)]))) := by
      unfold b_X33_value_118
      rw [hfl, W32_in (by omega) (by omega), if_pos (by omega), it, Option.bind_some, it1, Option.bind_some, W32_in (by omega) (by omega)]; rfl
    -- how it goes on
    have go : ∀ {n' : Int}, itOk s t A H b lo NL I OL SL k z n' (m_X33_item s A o v j) (if o < 10 then m_X37_push t H o v n (z.2.2.1 + j) else m_X37_apply t H o (n - 1)) → rpX I m (i + 1) n' → n' + m ≤ 60 → (∀ w, b_X37_evaluate_36 t H (z.2.2.1 + j) f l n i = some (.inl (w, [H, z.2.2.1 + j, f, l, n', ((i + 1 : Nat) : Int)])) ∨ ¬ (if o < 10 then m_X37_push t H o v n (z.2.2.1 + j) else m_X37_apply t H o (n - 1)) = some (w, 1)) → (∃ q r, jlpW (jc5 b_X33_value_118) [A, j, f, l, (i : Int)] s = some q ∧ jlpW (jc6 b_X37_evaluate_36) [H, z.2.2.1 + j, f, l, n, (i : Int)] t = some (r, 0) ∧ aBad s t A H q r) ∨
      (∃ u w, jlpW (jc5 b_X33_value_118) [A, j, f, l, (i : Int)] s = u_X33_value_157 u A j ∧ jlpW (jc6 b_X37_evaluate_36) [H, z.2.2.1 + j, f, l, n, (i : Int)] t = u_X37_evaluate_142 w H ∧ AR u w A H b lo NL I OL SL k z ∧ cFa A s u 0 0 ∧ tF H t w ∧ vaU A s u ∧ vaV H t w ∧ astk u w A H 1 ∧ syK H t w) := fun {n'} hok rp2 hn' hb => by
      obtain ⟨u, w, e1, e2, e3, e4, e5, e6, e7, e8, e9⟩ := hok
      have ty := (hb w).resolve_right fun zz => zz e2
      have step1 : jlpW (jc5 b_X33_value_118) [A, j, f, l, (i : Int)] s = jlpW (jc5 b_X33_value_118) [A, j, f, l, ((i + 1 : Nat) : Int)] u := jlpW_l (by
        rw [ex, bx, e1, Option.bind_some]; rfl)
      have step2 : jlpW (jc6 b_X37_evaluate_36) [H, z.2.2.1 + j, f, l, n, (i : Int)] t = jlpW (jc6 b_X37_evaluate_36) [H, z.2.2.1 + j, f, l, n', ((i + 1 : Nat) : Int)] w := jlpW_l (by rw [ey]; exact ty)
      have lc' : ∀ x : Nat, i + 1 ≤ x → x < i + 1 + m → ¬ lcP w H I x := fun x x0 x1 hx => by
        have := lc x (by omega) (by omega)
        unfold lcP at hx this
        rw [e7 _ _ _ (by omega) (by omega)] at hx
        exact this hx
      have ih := itemsLoop m (i + 1) u w n' e3 e8 rp2 (by omega) (by omega) mN (by rw [e6 _ _ _ (by omega) (by omega) (by omega)]; exact hf) j0 j1 f l (by omega) lc'
      rw [eu_X33_value_118, eu_X37_evaluate_36] at ih
      unfold du_X33_value_118 du_X37_evaluate_36 at ih
      rw [step1, step2]
      rcases ih with ⟨q, r, a1, a2, a3⟩ | ⟨u', w', a1, a2, a3, a4, a5, a6, a7, a8, a9⟩
      · exact .inl ⟨q, r, a1, a2, a3.after e4 e5⟩
      · exact .inr ⟨u', w', a1, a2, a3, (e4.trans a4 : cFa A s u' (0 + 0) (0 + 0)), e5.trans a5, e6.trans a6, e7.trans a7, a8, e9.trans a9⟩
    by_cases c10 : o < 10
    · have rp2 : rpX I m (i + 1) (n + 1) := by rw [if_pos c10] at rp'; exact rp'
      have lci : o = 2 → v % 2 = 0 → ¬ jf t 1000 (H + 149) (v / 2) = -1 := fun z1 z2 z3 => lc i (Nat.le_refl _) (by omega) (by unfold lcP; rw [hz]; exact ⟨z1, z2, z3⟩)
      rcases itemLeaf h st gd c10 (by omega) mN hf j0 j1 lci with ⟨q, r, e1, e2, e3⟩ | hok
      · left
        refine ⟨q, r, jlpW_r (r := some q) ?_, jlpW_r (r := some (r, 0)) ?_, e3⟩
        · rw [ex, bx, e1, Option.bind_some, e3.th]; rfl
        · rw [ey]; unfold b_X37_evaluate_36
          rw [hfl, W32_in (by omega) (by omega), if_pos (by omega), yt, Option.bind_some]
          show (if o < 10 then _ else _) = _
          rw [if_pos c10, yt1, Option.bind_some]
          show (m_X37_push t H o v n (z.2.2.1 + j)).bind _ = _
          rw [e2, Option.bind_some, if_pos rfl, Wz_0]
      · refine go (by rw [if_pos c10]; exact hok) rp2 (by omega) fun w => ?_
        rw [if_pos c10]
        by_cases hw : m_X37_push t H o v n (z.2.2.1 + j) = some (w, 1)
        · left
          unfold b_X37_evaluate_36
          rw [hfl, W32_in (by omega) (by omega), if_pos (by omega), yt, Option.bind_some]
          show (if o < 10 then _ else _) = _
          rw [if_pos c10, yt1, Option.bind_some]
          show (m_X37_push t H o v n (z.2.2.1 + j)).bind _ = _
          rw [hw, Option.bind_some, if_neg (by show ¬ (1 : Int) = 0; decide), eu_X37_evaluate_136]; unfold du_X37_evaluate_136
          rw [W32_in (by omega) (by omega), W32_in (by omega) (by omega)]; rfl
        · exact .inr hw
    · have o21 : 10 ≤ o ∧ o ≤ 21 := by
        rcases gd with ⟨h1, -⟩ | ⟨h1, -⟩ | ⟨h1, -⟩ | h1 | h1
        · have : o = 0 := h1; omega
        · have : o = 1 := h1; omega
        · have : o = 2 := h1; omega
        · have : o = 3 := h1; omega
        · exact h1
      have hd : (if o < 12 then 1 ≤ n else 2 ≤ n) ∧ rpX I m (i + 1) (if o < 12 then n else n - 1) := by
        rw [if_neg c10] at rp'
        by_cases c12 : o < 12
        · have r2 : 1 ≤ n ∧ rpX I m (i + 1) n := by rw [if_pos c12] at rp'; exact rp'
          rw [if_pos c12, if_pos c12]; exact r2
        · have r2 : 2 ≤ n ∧ rpX I m (i + 1) (n - 1) := by rw [if_neg c12] at rp'; exact rp'
          rw [if_neg c12, if_neg c12]; exact r2
      have nn : (if o < 12 then n else n - 1) ≤ n ∧ n - 1 ≤ (if o < 12 then n else n - 1) := by split <;> omega
      have n1 : 1 ≤ n := by have := hd.1; split at this <;> omega
      have wn : W32 (n - 1) = n - 1 := W32_in (by omega) (by omega)
      rcases itemOp (v := v) h st o21 (by omega) hd.1 hf j0 j1 with ⟨q, r0, r, e1, e2, e2', e3⟩ | hok
      · left
        refine ⟨q, r, jlpW_r (r := some q) ?_, jlpW_r (r := some (r, 0)) ?_, e3⟩
        · rw [ex, bx, e1, Option.bind_some, e3.th]; rfl
        · rw [ey]; unfold b_X37_evaluate_36
          rw [hfl, W32_in (by omega) (by omega), if_pos (by omega), yt, Option.bind_some]
          show (if o < 10 then _ else (m_X37_apply t H o (W32 (n - 1))).bind _) = _
          rw [if_neg c10, wn, e2, Option.bind_some, if_pos rfl, e2']
      · refine go (by rw [if_neg c10]; exact hok) hd.2 (by omega) fun w => ?_
        rw [if_neg c10]
        by_cases hw : m_X37_apply t H o (n - 1) = some (w, 1)
        · left
          unfold b_X37_evaluate_36
          rw [hfl, W32_in (by omega) (by omega), if_pos (by omega), yt, Option.bind_some]
          show (if o < 10 then _ else (m_X37_apply t H o (W32 (n - 1))).bind _) = _
          rw [if_neg c10, wn, hw, Option.bind_some, if_neg (by show ¬ (1 : Int) = 0; decide)]
          show (if o < 12 then _ else _) = _
          by_cases c12 : o < 12
          · rw [if_pos c12, if_pos c12, eu_X37_evaluate_134]; unfold du_X37_evaluate_134
            rw [eu_X37_evaluate_136]; unfold du_X37_evaluate_136
            rw [W32_in (by omega) (by omega)]; rfl
          · rw [if_neg c12, if_neg c12]
            simp only [jlet]
            rw [eu_X37_evaluate_134]; unfold du_X37_evaluate_134
            rw [eu_X37_evaluate_136]; unfold du_X37_evaluate_136
            rw [W32_in (by omega) (by omega)]; rfl
        · exact .inr hw
/-- a row of values is written -/
theorem AR.row {s2 : jS} (h : AR s t A H b lo NL I OL SL k z) (e : s2 = jp s 1000 a d x) (ha : A + 20 ≤ a ∧ a ≤ A + 22) : AR s2 t A H b lo NL I OL SL k z := by
  obtain ⟨aS, aT, aI, aB, aM, aSt, aK, aH, a0⟩ := h.2.2.2.1
  obtain ⟨f1, -⟩ := jpF e
  exact h.mk (cFa.rfl.wr e (by omega)) tF.rfl ⟨aS.cg (fun c a j _ => f1 _ _ _ (by omega)) (fun c a j _ => rfl), aT.cg (fun c a j _ => f1 _ _ _ (by omega)) (fun c a j _ => rfl) (Int.le_refl _), aI, aB.cg (fun c a j _ => f1 _ _ _ (by omega)) (fun c a j _ => rfl), aM.cg (fun c a j _ => f1 _ _ _ (by omega)) (fun c a j _ => rfl), aSt.cg (fun c a j _ => f1 _ _ _ (by omega)) (fun c a j _ => rfl), aK.cg (fun c a j _ => f1 _ _ _ (by omega)) (fun c a j _ => rfl), aH.cg (fun c a j _ => f1 _ _ _ (by omega)) (fun c a j _ => rfl) (Int.le_refl _), a0⟩
/-- what an operand's value writes -/
def vlU (A J : Int) (s u : jS) : Prop := ∀ c a j, ¬ (c = 37 ∧ a = A ∧ (j = 25 ∨ j = 26 ∨ j = 31 ∨ j = 36)) → ¬ (c = 38) → ¬ (c = 1000 ∧ (a = A + 2 ∨ a = A + 16 ∨ a = A + 17 ∨ A + 23 ≤ a ∧ a ≤ A + 25 ∨ A + 20 ≤ a ∧ a ≤ A + 22 ∧ j = J)) → jf u c a j = jf s c a j
theorem vaU.vl (h : vaU A s u) : vlU A J s u := fun c a j z1 z2 z3 => h c a j z1 z2 (by omega)
/-- the numbers of an operand's value -/
def vlE (u w : jS) (A H j : Int) : Prop := jf u 1000 (A + 20) j = jf w 41 H 52 ∧ jf u 1000 (A + 21) j = jf w 41 H 53 ∧ jf u 1000 (A + 22) j = jf w 41 H 54
/-- what an operand's value leaves: the same number, symbols on both sides -/
def vaOut (s t : jS) (A H b lo : Int) (NL : List (List Int)) (I : pI) (OL : List pvO) (SL : List pvS) (k : Int) (z : pvS) (j : Int) (x : Option (jS × Bool × Int)) (y : Option (jS × Int)) : Prop :=
  (∃ q r, x = some q ∧ y = some (r, 0) ∧ aBad s t A H q r) ∨
  (∃ u w, x = some (u, false, 0) ∧ y = some (w, 1) ∧ AR u w A H b lo NL I OL SL k z ∧ cFa A s u 0 0 ∧ tF H t w ∧ vlU A j s u ∧ vaV H t w ∧ vlE u w A H j ∧ vGo (jf w 41 H 12) (jf w 41 H 52, jf w 41 H 53, jf w 41 H 54) ∧ syK H t w)
/-- the end of a value -/
theorem valEnd (h : AR u w A H b lo NL I OL SL k z) (c1 : cFa A s u 0 0) (c2 : tF H t w) (va : vaU A s u) (vb : vaV H t w) (st : astk u w A H 1) (hn : syK H t w) (j0 : 0 ≤ j) (j1 : j < 800) : vaOut s t A H b lo NL I OL SL k z j (u_X33_value_157 u A j) (u_X37_evaluate_142 w H) := by
  obtain ⟨e1, e2⟩ := st.2.2 0 (by decide) (by decide)
  have e20 : jf u 1000 (A + 23) 0 = jf w 1000 (H + 163) 0 := congrArg Prod.fst e1
  have e21 : jf u 1000 (A + 24) 0 = jf w 1000 (H + 164) 0 := congrArg (fun x : vT => x.2.1) e1
  have e22 : jf u 1000 (A + 25) 0 = jf w 1000 (H + 165) 0 := congrArg (fun x : vT => x.2.2) e1
  obtain ⟨u1, E1⟩ : ∃ u1, u1 = jp u 1000 (A + 20) j (jf u 1000 (A + 23) 0) := ⟨_, rfl⟩
  obtain ⟨u2, E2⟩ : ∃ u2, u2 = jp u1 1000 (A + 21) j (jf u 1000 (A + 24) 0) := ⟨_, rfl⟩
  obtain ⟨u3, E3⟩ : ∃ u3, u3 = jp u2 1000 (A + 22) j (jf u 1000 (A + 25) 0) := ⟨_, rfl⟩
  obtain ⟨w1, G1⟩ : ∃ w1, w1 = jp w 41 H 52 (jf w 1000 (H + 163) 0) := ⟨_, rfl⟩
  obtain ⟨w2, G2⟩ : ∃ w2, w2 = jp w1 41 H 53 (jf w 1000 (H + 164) 0) := ⟨_, rfl⟩
  obtain ⟨w3, G3⟩ : ∃ w3, w3 = jp w2 41 H 54 (jf w 1000 (H + 165) 0) := ⟨_, rfl⟩
  obtain ⟨f1, p1, -⟩ := jpF E1
  obtain ⟨f2, p2, -⟩ := jpF E2
  obtain ⟨f3, p3, -⟩ := jpF E3
  obtain ⟨g1, r1, -⟩ := jpF G1
  obtain ⟨g2, r2, -⟩ := jpF G2
  obtain ⟨g3, r3, -⟩ := jpF G3
  have q20 : jf u3 1000 (A + 20) j = jf w3 41 H 52 := by rw [f3 _ _ _ (by omega), f2 _ _ _ (by omega), p1, g3 _ _ _ (by omega), g2 _ _ _ (by omega), r1]; exact e20
  have q21 : jf u3 1000 (A + 21) j = jf w3 41 H 53 := by rw [f3 _ _ _ (by omega), p2, g3 _ _ _ (by omega), r2]; exact e21
  have q22 : jf u3 1000 (A + 22) j = jf w3 41 H 54 := by rw [p3, r3]; exact e22
  have s52 : jf w3 41 H 52 = jf w 1000 (H + 163) 0 := by rw [g3 _ _ _ (by omega), g2 _ _ _ (by omega), r1]
  have s53 : jf w3 41 H 53 = jf w 1000 (H + 164) 0 := by rw [g3 _ _ _ (by omega), r2]
  have n12 : jf w3 41 H 12 = jf w 41 H 12 := by rw [g3 _ _ _ (by omega), g2 _ _ _ (by omega), g1 _ _ _ (by omega)]
  have sv : scV H w w3 := ((scV.rfl.wr G1 (by omega)).wr G2 (by omega)).wr G3 (by omega)
  refine .inr ⟨u3, w3, ?_, ?_, ((((h.row E1 (by omega)).row E2 (by omega)).row E3 (by omega)).sc scU.rfl sv), ((c1.wr E1 (by omega)).wr E2 (by omega)).wr E3 (by omega), c2.trans sv.tf, fun c a i z1 z2 z3 => ?_, vb.trans sv.va, ⟨q20, q21, q22⟩, ?_, hn.trans sv.syk⟩
  · rw [eu_X33_value_157]; unfold du_X33_value_157
    rw [jlt_in (by decide) (by decide), Option.bind_some, jst_in j0 j1, Option.bind_some, ← E1, jlt_in (by decide) (by decide), Option.bind_some, f1 _ _ _ (by omega), jst_in j0 j1, Option.bind_some, ← E2, jlt_in (by decide) (by decide), Option.bind_some, f2 _ _ _ (by omega), f1 _ _ _ (by omega), jst_in j0 j1, Option.bind_some, ← E3]
  · rw [eu_X37_evaluate_142]; unfold du_X37_evaluate_142
    simp only [jls]
    rw [jlt_in (by decide) (by decide), Option.bind_some, ← G1, jlt_in (by decide) (by decide), Option.bind_some, g1 _ _ _ (by omega), ← G2, jlt_in (by decide) (by decide), Option.bind_some, g2 _ _ _ (by omega), g1 _ _ _ (by omega), ← G3, Wz_1]
  · rw [f3 _ _ _ (by omega), f2 _ _ _ (by omega), f1 _ _ _ (by omega)]
    exact va _ _ _ z1 z2 (by omega)
  · rw [n12, s52, s53, r3]; exact e2
theorem AR.stg (h : AR s t A H b lo NL I OL SL k z) : stGd NL.length OL.length z := by
  have gg := h.1.2.2.2.2.2.2.2.2 (tS SL k) (by
    unfold tS
    rw [List.getD_eq_getElem?_getD, List.getElem?_eq_getElem (by have := h.2.2.2.2; omega)]
    exact List.getElem_mem _)
  rw [h.2.2.2.2.2.2] at gg
  exact gg
theorem AR.st0 (h : AR s t A H b lo NL I OL SL k z) : 0 ≤ z.2.2.1 := h.stg.2.2.2.1
theorem value2 (h : AR s t A H b lo NL I OL SL k z) (mN : NL.length ≤ 150) (hf : jf s 37 A 34 = z.2.2.1) (j0 : 0 ≤ j) (j1 : j < z.2.2.2.1) (hso : (tO OL (z.2.2.1 + j)).1 = 0 ∨ (tO OL (z.2.2.1 + j)).1 = 2) : vaOut s t A H b lo NL I OL SL k z j (m_X33_value s A j) (m_X37_evaluate t H (z.2.2.1 + j)) := by
  obtain ⟨o1, o2, o3, og, o5⟩ := h.op j0 j1
  have hl := h.2.1.len o1 o2
  obtain ⟨q, r, e1, e2, e3⟩ := needAt2 (o := 13) h (by decide) j0 j1 hf
  have hs0 := h.st0
  obtain ⟨⟨f0, f1, n0, n60⟩, g2, -⟩ := og
  obtain ⟨n1, rp⟩ := g2 hso
  rw [em_X33_value, em_X37_evaluate]; unfold dm_X33_value dm_X37_evaluate
  rw [hf, W32_in (by omega) (by omega), c_operand h.1.1 o1 o2 (by decide) (by decide) (by omega), Option.bind_some, c_operand h.1.1 o1 o2 (by decide) (by decide) (by omega), Option.bind_some]
  show vaOut s t A H b lo NL I OL SL k z j (u_X33_value_33 s A j (tO OL (z.2.2.1 + j)).2.2.2.1 (tO OL (z.2.2.1 + j)).2.2.2.2.1 (tO OL (z.2.2.1 + j)).2.2.2.1) _
  obtain ⟨c1, c2⟩ := c_locs (j := j) h f0 n0 f1 e1 e3.th
  obtain ⟨y1, y2⟩ := y_locs h o1 o2 rfl rfl f0 n0 f1 e2
  have yo3 := y_operand (t := t) h.2.1.1 o1 o2 (w := 3) (by decide) (by decide)
  have yo4 := y_operand (t := t) h.2.1.1 o1 o2 (w := 4) (by decide) (by decide)
  have q3 : opQ1 (tO OL (z.2.2.1 + j)) 3 = (tO OL (z.2.2.1 + j)).2.2.2.1 := rfl
  have q4 : opQ1 (tO OL (z.2.2.1 + j)) 4 = (tO OL (z.2.2.1 + j)).2.2.2.2.1 := rfl
  rw [q3] at yo3
  rw [q4] at yo4
  generalize (tO OL (z.2.2.1 + j)).2.2.2.1 = f at *
  generalize (tO OL (z.2.2.1 + j)).2.2.2.2.1 = n at *
  by_cases lc : ∃ i, f ≤ i ∧ i < f + n ∧ lcP t H I i
  · left
    refine ⟨q, r, c2 lc, ?_, e3⟩
    rw [y2 lc, Option.bind_some, if_pos rfl, Wz_0]
  have lc' : ∀ i, f ≤ i → i < f + n → ¬ lcP t H I i := fun i i0 i1 hp => lc ⟨i, i0, i1, hp⟩
  rw [c1 lc', y1 lc', Option.bind_some, if_neg (by show ¬ (1 : Int) = 0; decide), yo3, Option.bind_some]
  rw [yo4, Option.bind_some, eu_X33_value_110]; unfold du_X33_value_110
  simp only [jls]
  show vaOut s t A H b lo NL I OL SL k z j _ (u_X37_evaluate_36 t H (z.2.2.1 + j) f n 0 f)
  obtain ⟨s1, E1⟩ : ∃ s1, s1 = jp s 37 A 36 0 := ⟨_, rfl⟩
  obtain ⟨g1, p1, -⟩ := jpF E1
  rw [← E1]
  have sc := (scU.rfl (A := A)).wr E1 (by omega)
  have h1 := h.sc sc (scV.rfl (H := H))
  have st0 : astk s1 t A H 0 := ⟨p1, Int.le_refl _, fun i i0 i1 => by omega⟩
  obtain ⟨i, hi, hi'⟩ := nat_of f0
  obtain ⟨m, hm, hm'⟩ := nat_of n0
  rw [hi', hm'] at rp
  have hL := itemsLoop m i s1 t 0 h1 st0 rp (by omega) (by omega) mN (by rw [g1 _ _ _ (by omega)]; exact hf) j0 j1 f n (by omega) (fun x x0 x1 => lc' x (by omega) (by omega))
  rw [← hi] at hL
  rcases hL with ⟨q', r', l1, l2, l3⟩ | ⟨u, w, l1, l2, l3, l4, l5, l6, l7, l8, l9⟩
  · exact .inl ⟨q', r', l1, l2, l3.after sc.cf tF.rfl⟩
  · rw [l1, l2]
    exact valEnd l3 ((sc.cf.trans l4 : cFa A s u (0 + 0) (0 + 0))) l5 (sc.va.trans l6) l7 l8 l9 j0 (by omega)
end jAsmb
