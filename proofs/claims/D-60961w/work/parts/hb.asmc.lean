/-! the assembler: steps of both sides *-/
section jAsmc
variable {s t u v w s1 t1 : jS} {A H b lo N k i j o c a n p X Y d e m x y J : Int} {NL : List (List Int)} {I : pI} {OL : List pvO} {SL : List pvS} {z : pvS} {q : jS × Bool × Int} {r : jS} {Q Q' : jS → jS → Int → Prop}
/-- both sides within a statement -/
def AG (s t : jS) (A H b lo : Int) (NL : List (List Int)) (I : pI) (OL : List pvO) (SL : List pvS) (k : Int) (z : pvS) : Prop := AR s t A H b lo NL I OL SL k z ∧ aArg (jf s) (jf t) A H z ∧ NL.length ≤ 150
theorem AG.bk (h : AG s t A H b lo NL I OL SL k z) (h' : AR u w A H b lo NL I OL SL k z) (c1 : jf u 37 A 34 = jf s 37 A 34 ∧ jf u 37 A 35 = jf s 37 A 35) (c2 : jf w 41 H 45 = jf t 41 H 45 ∧ jf w 41 H 46 = jf t 41 H 46) : AG u w A H b lo NL I OL SL k z := by
  obtain ⟨-, ⟨h1, h2, h3, h4⟩, h5⟩ := h
  exact ⟨h', ⟨by rw [c1.1]; exact h1, by rw [c2.1]; exact h2, by rw [c1.2]; exact h3, by rw [c2.2]; exact h4⟩, h5⟩
theorem n10 : ¬ (1 : Int) = 0 := by decide
theorem tw0 {f : Option (jS × Int)} (r : jS) : (if (r, (0 : Int)).2 = 0 then some ((r, (0 : Int)).1, Wz 0) else f) = some (r, 0) := by rw [if_pos rfl, Wz_0]
theorem tw1 (r : jS) : some ((r, (0 : Int)).1, Wz (r, (0 : Int)).2) = some (r, 0) := by rw [Wz_0]
theorem tw2 {f : Option (jS × Int)} (r : jS) : (if (0 : Int) = 0 then some (r, Wz 0) else f) = some (r, 0) := by rw [if_pos rfl, Wz_0]
/-- a step: the same fault, or both go on -/
def stO (s t : jS) (A H b lo : Int) (NL : List (List Int)) (I : pI) (OL : List pvO) (SL : List pvS) (k : Int) (z : pvS) (x : Option (jS × Bool × Int)) (y : Option (jS × Int)) (Q : jS → jS → Int → Prop) : Prop :=
  (∃ q r, x = some q ∧ y = some (r, 0) ∧ aBad s t A H q r) ∨
  (∃ u w v, x = some (u, false, v) ∧ y = some (w, 1) ∧ AG u w A H b lo NL I OL SL k z ∧ cFa A s u 0 0 ∧ tF H t w ∧ Q u w v)
theorem stO.bind {f : jS × Bool × Int → Option (jS × Bool × Int)} {g : jS × Int → Option (jS × Int)} {xx : Option (jS × Bool × Int)} {yy : Option (jS × Int)} (h : stO s t A H b lo NL I OL SL k z xx yy Q) (hf : ∀ u d, f (u, true, d) = some (u, true, d)) (hg : ∀ r, g (r, 0) = some (r, 0)) (hc : ∀ u w v, AG u w A H b lo NL I OL SL k z → cFa A s u 0 0 → tF H t w → Q u w v → stO u w A H b lo NL I OL SL k z (f (u, false, v)) (g (w, 1)) Q') : stO s t A H b lo NL I OL SL k z (xx.bind f) (yy.bind g) Q' := by
  rcases h with ⟨q, r, e1, e2, e3⟩ | ⟨u, w, v, e1, e2, e3, e4, e5, e6⟩
  · refine .inl ⟨q, r, ?_, ?_, e3⟩
    · rw [e1, Option.bind_some, e3.th]; exact hf _ _
    · rw [e2, Option.bind_some]; exact hg _
  · rw [e1, e2, Option.bind_some, Option.bind_some]
    rcases hc u w v e3 e4 e5 e6 with ⟨q, r, d1, d2, d3⟩ | ⟨u', w', v', d1, d2, d3, d4, d5, d6⟩
    · exact .inl ⟨q, r, d1, d2, d3.after e4 e5⟩
    · exact .inr ⟨u', w', v', d1, d2, d3, (e4.trans d4 : cFa A s u' (0 + 0) (0 + 0)), e5.trans d5, d6⟩
theorem stO.mono {xx : Option (jS × Bool × Int)} {yy : Option (jS × Int)} (h : stO s t A H b lo NL I OL SL k z xx yy Q) (hq : ∀ u w v, Q u w v → Q' u w v) : stO s t A H b lo NL I OL SL k z xx yy Q' := by
  rcases h with h | ⟨u, w, v, e1, e2, e3, e4, e5, e6⟩
  · exact .inl h
  · exact .inr ⟨u, w, v, e1, e2, e3, e4, e5, hq _ _ _ e6⟩
theorem stO.ret (h : AG s t A H b lo NL I OL SL k z) (q : Q s t d) : stO s t A H b lo NL I OL SL k z (some (s, false, d)) (some (t, 1)) Q := .inr ⟨s, t, d, rfl, rfl, h, cFa.rfl, tF.rfl, q⟩
theorem needOk {f : jS × Bool × Int → Option (jS × Bool × Int)} (hx : ¬ x = 0) : (m_X33_need s A x o).bind f = f (s, false, 0) := by rw [need1 hx, Option.bind_some]
theorem needAtOk {f : jS × Bool × Int → Option (jS × Bool × Int)} (hx : ¬ x = 0) : (m_X33_needAt s A x o j).bind f = f (s, false, 0) := by rw [needAt1 hx, Option.bind_some]
theorem stO.bad {f : jS × Bool × Int → Option (jS × Bool × Int)} {g : jS × Int → Option (jS × Int)} (h : AG s t A H b lo NL I OL SL k z) (ho : ¬ o = 0) (hf : ∀ u d, f (u, true, d) = some (u, true, d)) (hg : ∀ r, g (r, 0) = some (r, 0)) : stO s t A H b lo NL I OL SL k z ((m_X33_need s A 0 o).bind f) ((m_X37_fail t H o).bind g) Q := by
  obtain ⟨q, r, e1, e2, e3⟩ := need2 h.1 ho
  refine .inl ⟨q, r, ?_, ?_, e3⟩
  · rw [e1, Option.bind_some, e3.th]; exact hf _ _
  · rw [e2, Option.bind_some]; exact hg _
theorem stO.badAt {f : jS × Bool × Int → Option (jS × Bool × Int)} {g : jS × Int → Option (jS × Int)} (h : AG s t A H b lo NL I OL SL k z) (ho : ¬ o = 0) (j0 : 0 ≤ j) (j1 : j < z.2.2.2.1) (hf : ∀ u d, f (u, true, d) = some (u, true, d)) (hg : ∀ r, g (r, 0) = some (r, 0)) : stO s t A H b lo NL I OL SL k z ((m_X33_needAt s A 0 o j).bind f) ((m_X37_placeOf t H (z.2.2.1 + j)).bind fun q1 => (m_X37_fail_2 q1.1 H o q1.2).bind g) Q := by
  obtain ⟨o1, o2, o3, o4, o5⟩ := h.1.op j0 j1
  obtain ⟨q, r, e1, e2, e3⟩ := needAt2 (o := o) h.1 ho j0 j1 h.2.1.1
  refine .inl ⟨q, r, ?_, ?_, e3⟩
  · rw [e1, Option.bind_some, e3.th]; exact hf _ _
  · rw [y_placeOf h.1.2.1 o1 o2, Option.bind_some, e2, Option.bind_some]; exact hg _
/-- what a value leaves -/
def vQ (s t : jS) (A H j : Int) (u w : jS) : Prop := vlU A j s u ∧ vaV H t w ∧ vlE u w A H j ∧ vGo (jf w 41 H 12) (jf w 41 H 52, jf w 41 H 53, jf w 41 H 54) ∧ syK H t w
theorem value3 (h : AG s t A H b lo NL I OL SL k z) (j0 : 0 ≤ j) (j1 : j < z.2.2.2.1) (hso : (tO OL (z.2.2.1 + j)).1 = 0 ∨ (tO OL (z.2.2.1 + j)).1 = 2) : stO s t A H b lo NL I OL SL k z (m_X33_value s A j) (m_X37_evaluate t H (z.2.2.1 + j)) fun u w _ => vQ s t A H j u w := by
  rcases value2 h.1 h.2.2 h.2.1.1 j0 j1 hso with h' | ⟨u, w, e1, e2, e3, e4, e5, e6, e7, e8, e9, e10⟩
  · exact .inl h'
  · exact .inr ⟨u, w, 0, e1, e2, h.bk e3 ⟨e6 _ _ _ (by omega) (by omega) (by omega), e6 _ _ _ (by omega) (by omega) (by omega)⟩ ⟨e7 _ _ _ (by omega) (by omega), e7 _ _ _ (by omega) (by omega)⟩, e4, e5, e6, e7, e8, e9, e10⟩
theorem plainI (t : jS) (H : Int) : m_X37_isPlain t H = some (if jf t 41 H 53 = -1 ∧ jf t 41 H 54 = -1 then 1 else 0) := by
  rw [em_X37_isPlain]; unfold dm_X37_isPlain
  rw [Wz_0, Wz_1]
  by_cases c1 : jf t 41 H 53 = -1
  · rw [if_pos c1]
    by_cases c2 : jf t 41 H 54 = -1
    · rw [if_pos c2, if_pos ⟨c1, c2⟩]
    · rw [if_neg c2, if_neg fun z => c2 z.2]
  · rw [if_neg c1, if_neg fun z => c1 z.1]
theorem placedI (t : jS) (H : Int) : m_X37_isPlaced t H = some (if ¬ jf t 41 H 53 = -1 ∧ jf t 41 H 54 = -1 then 1 else 0) := by
  rw [em_X37_isPlaced]; unfold dm_X37_isPlaced
  rw [Wz_0, Wz_1]
  by_cases c1 : jf t 41 H 53 = -1
  · rw [if_pos c1, if_neg fun z => z.1 c1]
  · rw [if_neg c1]
    by_cases c2 : jf t 41 H 54 = -1
    · rw [if_pos c2, if_pos ⟨c1, c2⟩]
    · rw [if_neg c2, if_neg fun z => c2 z.2]
theorem plain2 (h : AG s t A H b lo NL I OL SL k z) (j0 : 0 ≤ j) (j1 : j < z.2.2.2.1) (hso : (tO OL (z.2.2.1 + j)).1 = 0 ∨ (tO OL (z.2.2.1 + j)).1 = 2) : stO s t A H b lo NL I OL SL k z (m_X33_plain s A j) (m_X37_plain t H (z.2.2.1 + j)) fun u w d => vQ s t A H j u w ∧ d = jf w 41 H 52 ∧ jf w 41 H 53 = -1 ∧ jf w 41 H 54 = -1 := by
  rw [em_X33_plain, em_X37_plain]; unfold dm_X33_plain dm_X37_plain
  have o3 := (h.1.op j0 j1).2.2
  refine (value3 h j0 j1 hso).bind (fun _ _ => rfl) (fun r => tw0 r) fun u w v g c1 c2 q => ?_
  have hz : 0 ≤ z.2.2.1 := h.1.st0
  obtain ⟨e20, e21, e22⟩ := q.2.2.1
  dsimp only
  rw [jth_ff, jlt_in j0 (by omega), Option.bind_some, if_neg n10, plainI, Option.bind_some, e21]
  by_cases p1 : jf w 41 H 53 = -1
  · rw [if_pos p1, jlt_in j0 (by omega), Option.bind_some, e22]
    by_cases p2 : jf w 41 H 54 = -1
    · rw [if_pos p2, if_neg (show ¬ (if jf w 41 H 53 = -1 ∧ jf w 41 H 54 = -1 then (1 : Int) else 0) = 0 by rw [if_pos ⟨p1, p2⟩]; decide), eu_X33_plain_31]; unfold du_X33_plain_31
      rw [needAtOk (by decide)]
      dsimp only
      rw [jth_ff, jlt_in j0 (by omega), Option.bind_some, Wz_1, e20]
      exact .ret g ⟨q, rfl, p1, p2⟩
    · rw [if_neg p2, if_pos (show (if jf w 41 H 53 = -1 ∧ jf w 41 H 54 = -1 then (1 : Int) else 0) = 0 by rw [if_neg fun z => p2 z.2]), eu_X33_plain_30]; unfold du_X33_plain_30
      rw [eu_X33_plain_31]; unfold du_X33_plain_31
      exact .badAt g (by decide) j0 j1 (fun _ _ => rfl) fun r => tw0 r
  · rw [if_neg p1, if_pos (show (if jf w 41 H 53 = -1 ∧ jf w 41 H 54 = -1 then (1 : Int) else 0) = 0 by rw [if_neg fun z => p1 z.1]), eu_X33_plain_30]; unfold du_X33_plain_30
    rw [eu_X33_plain_31]; unfold du_X33_plain_31
    exact .badAt g (by decide) j0 j1 (fun _ _ => rfl) fun r => tw0 r
theorem placed2 (h : AG s t A H b lo NL I OL SL k z) (j0 : 0 ≤ j) (j1 : j < z.2.2.2.1) (hso : (tO OL (z.2.2.1 + j)).1 = 0 ∨ (tO OL (z.2.2.1 + j)).1 = 2) : stO s t A H b lo NL I OL SL k z (m_X33_placed s A j) (m_X37_placed t H (z.2.2.1 + j)) fun u w _ => vQ s t A H j u w ∧ ¬ jf w 41 H 53 = -1 ∧ jf w 41 H 54 = -1 := by
  rw [em_X33_placed, em_X37_placed]; unfold dm_X33_placed dm_X37_placed
  have o3 := (h.1.op j0 j1).2.2
  refine (value3 h j0 j1 hso).bind (fun _ _ => rfl) (fun r => tw0 r) fun u w v g c1 c2 q => ?_
  have hz : 0 ≤ z.2.2.1 := h.1.st0
  obtain ⟨e20, e21, e22⟩ := q.2.2.1
  dsimp only
  rw [jth_ff, jlt_in j0 (by omega), Option.bind_some, if_neg n10, placedI, Option.bind_some, e21]
  by_cases p1 : jf w 41 H 53 = -1
  · rw [if_pos p1, if_pos (show (if ¬ jf w 41 H 53 = -1 ∧ jf w 41 H 54 = -1 then (1 : Int) else 0) = 0 by rw [if_neg fun z => z.1 p1]), eu_X33_placed_30]; unfold du_X33_placed_30
    rw [eu_X33_placed_31]; unfold du_X33_placed_31
    exact .badAt g (by decide) j0 j1 (fun _ _ => rfl) fun r => tw0 r
  · rw [if_neg p1, jlt_in j0 (by omega), Option.bind_some, e22]
    by_cases p2 : jf w 41 H 54 = -1
    · rw [if_pos p2, if_neg (show ¬ (if ¬ jf w 41 H 53 = -1 ∧ jf w 41 H 54 = -1 then (1 : Int) else 0) = 0 by rw [if_pos ⟨p1, p2⟩]; decide), eu_X33_placed_31]; unfold du_X33_placed_31
      rw [needAtOk (by decide)]
      dsimp only
      rw [jth_ff, Wz_1]
      exact .ret g ⟨q, p1, p2⟩
    · rw [if_neg p2, if_pos (show (if ¬ jf w 41 H 53 = -1 ∧ jf w 41 H 54 = -1 then (1 : Int) else 0) = 0 by rw [if_neg fun z => p2 z.2]), eu_X33_placed_30]; unfold du_X33_placed_30
      rw [eu_X33_placed_31]; unfold du_X33_placed_31
      exact .badAt g (by decide) j0 j1 (fun _ _ => rfl) fun r => tw0 r
/-- a plain number between two bounds -/
theorem within2 {f : jS × Bool × Int → Option (jS × Bool × Int)} (h : AG s t A H b lo NL I OL SL k z) (j0 : 0 ≤ j) (j1 : j < z.2.2.2.1) (hso : (tO OL (z.2.2.1 + j)).1 = 0 ∨ (tO OL (z.2.2.1 + j)).1 = 2) (hf : ∀ u d, f (u, true, d) = some (u, true, d)) {g : jS → Int → Option (jS × Bool × Int)} (hg : ∀ u d, f (u, false, d) = if d < x then (m_X33_needAt u A 0 o j).bind fun q => jth q.2.1 (some (q.1, true, q.2.2)) (g q.1 d) else if y < d then (m_X33_needAt u A 0 o j).bind fun q => jth q.2.1 (some (q.1, true, q.2.2)) (g q.1 d) else (m_X33_needAt u A 1 o j).bind fun q => jth q.2.1 (some (q.1, true, q.2.2)) (g q.1 d)) (ho : o = 15) {g' : jS × Int → Option (jS × Int)} (hg' : ∀ r, g' (r, 0) = some (r, 0)) (hc : ∀ u w d, AG u w A H b lo NL I OL SL k z → cFa A s u 0 0 → tF H t w → vQ s t A H j u w → d = jf w 41 H 52 → x ≤ d → d ≤ y → jf w 41 H 53 = -1 ∧ jf w 41 H 54 = -1 → stO u w A H b lo NL I OL SL k z (g u d) (g' (w, 1)) Q') : stO s t A H b lo NL I OL SL k z ((m_X33_plain s A j).bind f) ((m_X37_within t H (z.2.2.1 + j) x y).bind g') Q' := by
  subst ho
  rw [em_X37_within]; unfold dm_X37_within
  rw [Option.bind_assoc]
  refine (plain2 h j0 j1 hso).bind hf (fun r => by dsimp only; rw [if_pos rfl, Option.bind_some, Wz_0]; exact hg' r) fun u w d a c1 c2 q => ?_
  obtain ⟨q0, q1, q2⟩ := q
  dsimp only
  rw [hg, if_neg n10, ← q1]
  have bd : stO u w A H b lo NL I OL SL k z ((m_X33_needAt u A 0 15 j).bind fun q => jth q.2.1 (some (q.1, true, q.2.2)) (g q.1 d)) ((u_X37_within_24 w H (z.2.2.1 + j)).bind g') Q' := by
    rw [eu_X37_within_24]; unfold du_X37_within_24
    rw [Option.bind_assoc]
    simp only [Option.bind_assoc]
    refine .badAt a (by decide) j0 j1 (fun _ _ => rfl) fun r => ?_
    dsimp only
    rw [if_pos rfl, Option.bind_some, Wz_0]; exact hg' r
  by_cases p1 : d < x
  · rw [if_pos p1, if_pos p1]; exact bd
  rw [if_neg p1, if_neg p1]
  by_cases p2 : y < d
  · rw [if_pos p2, if_pos p2]; exact bd
  rw [if_neg p2, if_neg p2, needAtOk (by decide)]
  dsimp only
  rw [jth_ff, Option.bind_some, Wz_1]
  exact hc u w d a c1 c2 q0 q1 (by omega) (by omega) q2
end jAsmc
