/-! the assembler: an item, both sides *-/
section jAsma
variable {s t u v w s1 t1 : jS} {A H b lo N k i j o c a n p X Y d e m x y J : Int} {NL : List (List Int)} {I : pI} {OL : List pvO} {SL : List pvS} {z : pvS} {q : jS × Bool × Int} {r : jS}
/-- an item is done on both sides, n values are there then -/
def itOk (s t : jS) (A H b lo : Int) (NL : List (List Int)) (I : pI) (OL : List pvO) (SL : List pvS) (k : Int) (z : pvS) (n : Int) (x : Option (jS × Bool × Int)) (y : Option (jS × Int)) : Prop := ∃ u w, x = some (u, false, 0) ∧ y = some (w, 1) ∧ AR u w A H b lo NL I OL SL k z ∧ cFa A s u 0 0 ∧ tF H t w ∧ vaU A s u ∧ vaV H t w ∧ astk u w A H n ∧ syK H t w
/-- the twin's place first, what comes then on both sides -/
theorem leafFin {x : vT} (R : AR u w A H b lo NL I OL SL k z) (c1 : cFa A s u 0 0) (c2 : tF H t w) (va : vaU A s u) (vb : vaV H t w) (st : astk s t A H n) (n0 : n ≤ 60) (hu : jf u 37 A 36 = n ∧ ∀ a j, (a = A + 23 ∨ a = A + 24 ∨ a = A + 25) → jf u 1000 a j = jf s 1000 a j) (hw : ∀ a j, (a = H + 163 ∨ a = H + 164 ∨ a = H + 165) → ¬ j = n → jf w 1000 a j = jf t 1000 a j) (hx : rd3 w (H + 163) (H + 164) (H + 165) n = x) (gx : vGo (jf w 41 H 12) x) (hn : syK H t w) : itOk s t A H b lo NL I OL SL k z (n + 1) ((m_X33_push u A x.1 x.2.1 x.2.2).bind fun q1 => some (q1.1, false, 0)) (some (w, 1)) := by
  obtain ⟨st0, st1, st2⟩ := st
  obtain ⟨u1, e1, w1⟩ := c_push (x := x) hu.1 st1 (by omega)
  obtain ⟨u2, E2⟩ : ∃ u2, u2 = jp u1 37 A 36 (n + 1) := ⟨_, rfl⟩
  obtain ⟨f2, p2, -⟩ := jpF E2
  have sc : scU A u u2 := w1.sc.wr E2 (by omega)
  refine ⟨u2, w, by rw [e1, Option.bind_some, ← E2], rfl, R.sc sc scV.rfl, (c1.trans sc.cf : cFa A s u2 (0 + 0) (0 + 0)), c2, va.trans sc.va, vb, ⟨p2, by omega, fun i i0 i1 => ?_⟩, hn⟩
  have e0 : rd3 u2 (A + 23) (A + 24) (A + 25) i = rd3 u1 (A + 23) (A + 24) (A + 25) i := by unfold rd3; rw [f2 _ _ _ (by omega), f2 _ _ _ (by omega), f2 _ _ _ (by omega)]
  rw [e0]
  by_cases ci : i = n
  · subst ci; rw [w1.2.1, hx]; exact ⟨rfl, gx⟩
  · have hi : i < n := by omega
    obtain ⟨h1, h2⟩ := st2 i i0 hi
    have e1 : rd3 u1 (A + 23) (A + 24) (A + 25) i = rd3 s (A + 23) (A + 24) (A + 25) i := by unfold rd3; rw [w1.2.2 _ _ _ (by omega), w1.2.2 _ _ _ (by omega), w1.2.2 _ _ _ (by omega), hu.2 _ _ (by omega), hu.2 _ _ (by omega), hu.2 _ _ (by omega)]
    have e2 : rd3 w (H + 163) (H + 164) (H + 165) i = rd3 t (H + 163) (H + 164) (H + 165) i := by unfold rd3; rw [hw _ _ (by omega) ci, hw _ _ (by omega) ci, hw _ _ (by omega) ci]
    rw [e1, e2]; exact ⟨h1, h2.up hn.1⟩
theorem itemLeaf {v : Int} (h : AR s t A H b lo NL I OL SL k z) (st : astk s t A H n) (ho : itGd NL.length (o, v)) (o10 : o < 10) (n60 : n ≤ 60) (mN : NL.length ≤ 150) (hf : jf s 37 A 34 = z.2.2.1) (j0 : 0 ≤ j) (j1 : j < z.2.2.2.1) (hl : o = 2 → v % 2 = 0 → ¬ jf t 1000 (H + 149) (v / 2) = -1) :
    (∃ q r, m_X33_item s A o v j = some q ∧ m_X37_push t H o v n (z.2.2.1 + j) = some (r, 0) ∧ aBad s t A H q r) ∨ itOk s t A H b lo NL I OL SL k z (n + 1) (m_X33_item s A o v j) (m_X37_push t H o v n (z.2.2.1 + j)) := by
  have n0 := st.2.1
  have cnt0 := h.2.2.2.1.1.2.1
  -- the twin's place is set
  have e14 : ∀ y0, ∃ t3, u_X37_push_14 t H o v n (z.2.2.1 + j) y0 n (H + 163) = (if o = 0 then some (t3, Wz 1) else if o = 1 then (m_X37_symbolOfName t3 H v).bind fun q4 => u_X37_push_67 q4.1 H o n q4.2 else if o = 2 then (m_X37_localSymbol t3 H v (z.2.2.1 + j)).bind fun q5 => u_X37_push_67 q5.1 H o n q5.2 else (m_X37_symbolHere t3 H).bind fun q6 => u_X37_push_67 q6.1 H o n q6.2) ∧ wr3 t t3 (H + 163) (H + 164) (H + 165) n (y0, -1, -1) := fun y0 => by
    rw [eu_X37_push_14]; unfold du_X37_push_14
    rw [jst_in n0 (by omega), Option.bind_some, jst_in n0 (by omega), Option.bind_some, jst_in n0 (by omega), Option.bind_some]
    exact ⟨_, rfl, wr3_of (x := (y0, -1, -1)) ⟨by omega, by omega, by omega⟩⟩
  -- what comes behind a symbol
  have sy : ∀ {t3 : jS} {x' : Option (jS × Bool × Int)} {y' : Option (jS × Int)} {K : jS × Bool × Int → Option (jS × Bool × Int)}, wr3 t t3 (H + 163) (H + 164) (H + 165) n (0, -1, -1) → syOut s t3 A H b lo NL I OL SL k z x' y' → (∀ q, q.2.1 = true → K q = some (q.1, true, q.2.2)) → (∀ u v' i, AR u v' A H b lo NL I OL SL k z → 0 ≤ i → i < jf v' 41 H 12 → (K (u, false, i) = (m_X33_push u A (if o = 1 ∧ jf v' 1000 (H + 144) i = 4 then jf v' 1000 (H + 145) i else 0) (if o = 1 ∧ jf v' 1000 (H + 144) i = 4 then -1 else i) (-1)).bind fun q1 => some (q1.1, false, 0))) → (∃ q r, x'.bind K = some q ∧ (y'.bind fun q4 => u_X37_push_67 q4.1 H o n q4.2) = some (r, 0) ∧ aBad s t A H q r) ∨ itOk s t A H b lo NL I OL SL k z (n + 1) (x'.bind K) (y'.bind fun q4 => u_X37_push_67 q4.1 H o n q4.2) := fun {t3 x' y' K} w3 hs hK1 hK2 => by
    rcases hs with ⟨q, r, e1, e2, e3⟩ | ⟨u, v', i, e1, e2, e3, e4, e5, ⟨e6, e6'⟩, e7, e8, e9⟩
    · left
      refine ⟨q, r, ?_, ?_, e3.after cFa.rfl w3.scv.tf⟩
      · rw [e1, Option.bind_some, hK1 q (by obtain ⟨_, _, _, h2, -⟩ := e3; exact h2), ← e3.th]
      · rw [e2, Option.bind_some, eu_X37_push_67]; unfold du_X37_push_67
        rw [if_pos rfl, Wz_0]
    · right
      rw [e1, e2, Option.bind_some, Option.bind_some, hK2 u v' i e3 e6 e6', eu_X37_push_67]; unfold du_X37_push_67
      dsimp only
      have c100 := e3.2.2.2.1.1.2.1
      have n12 : jf t3 41 H 12 = jf t 41 H 12 := w3.2.2 _ _ _ (by omega)
      have hu36 : jf u 37 A 36 = n ∧ ∀ a j, (a = A + 23 ∨ a = A + 24 ∨ a = A + 25) → jf u 1000 a j = jf s 1000 a j := ⟨by rw [e7 _ _ _ (by omega) (by omega) (by omega)]; exact st.1, fun a j ha => e7 _ _ _ (by omega) (by omega) (by omega)⟩
      have hv : ∀ a j, H + 163 ≤ a → a ≤ H + 165 → jf v' 1000 a j = jf t3 1000 a j := fun a j h1 h2 => e8 _ _ _ (by omega) (by omega)
      have t3n : jf t3 1000 (H + 163) n = 0 ∧ jf t3 1000 (H + 164) n = -1 ∧ jf t3 1000 (H + 165) n = -1 := ⟨congrArg Prod.fst w3.2.1, congrArg (fun x => x.2.1) w3.2.1, congrArg (fun x => x.2.2) w3.2.1⟩
      have t3o : ∀ a j, (a = H + 163 ∨ a = H + 164 ∨ a = H + 165) → ¬ j = n → jf v' 1000 a j = jf t 1000 a j := fun a j ha hj => by rw [hv _ _ (by omega) (by omega)]; exact w3.2.2 _ _ _ (by omega)
      have mono : syK H t v' := ⟨by rw [← n12]; exact e9.1, fun i' i0 i1 => by rw [e9.2 i' i0 (by rw [n12]; exact i1)]; exact w3.2.2 _ _ _ (by omega)⟩
      have sU := e7.va
      have sV : vaV H t v' := w3.scv.va.trans e8.va
      have tfv : tF H t v' := w3.scv.tf.trans e5
      rw [if_neg (show ¬ i = -1 by omega)]
      by_cases o1 : o = 1
      · rw [if_pos o1, jlt_in e6 (by omega), Option.bind_some]
        by_cases w4 : jf v' 1000 (H + 144) i = 4
        · rw [if_pos w4, jlt_in e6 (by omega), Option.bind_some, jst_in n0 (by omega), Option.bind_some, Wz_1, if_pos (⟨o1, w4⟩ : o = 1 ∧ jf v' 1000 (H + 144) i = 4), if_pos (⟨o1, w4⟩ : o = 1 ∧ jf v' 1000 (H + 144) i = 4)]
          obtain ⟨w5, E5⟩ : ∃ w5, w5 = jp v' 1000 (H + 163) n (jf v' 1000 (H + 145) i) := ⟨_, rfl⟩
          obtain ⟨f5, p5, -⟩ := jpF E5
          have sc5 : scV H v' w5 := scV.rfl.wr E5 (by omega)
          have jn5 : jin (jf v' 1000 (H + 145) i) := by
            obtain ⟨-, -, -, -, q5, q6, -⟩ := e3.2.2.2.1.1.2.2.2.2 i e6 e6'
            rw [q5]; exact q6
          rw [← E5]
          exact leafFin (x := (jf v' 1000 (H + 145) i, -1, -1)) (e3.sc scU.rfl sc5) e4 (tfv.trans sc5.tf) sU (sV.trans sc5.va) st n60 hu36 (fun a j ha hj => by rw [f5 _ _ _ (by omega)]; exact t3o a j ha hj) (rd3_eq p5 (by rw [f5 _ _ _ (by omega), hv _ _ (by omega) (by omega)]; exact t3n.2.1) (by rw [f5 _ _ _ (by omega), hv _ _ (by omega) (by omega)]; exact t3n.2.2)) ⟨jn5, by show (-1 : Int) ≤ -1 ∧ (-1 : Int) < _; rw [f5 _ _ _ (by omega)]; omega, by show (-1 : Int) ≤ -1 ∧ (-1 : Int) < _; rw [f5 _ _ _ (by omega)]; omega⟩ (mono.wr E5 (by omega))
        · rw [if_neg w4, if_neg (fun z => w4 z.2 : ¬ (o = 1 ∧ jf v' 1000 (H + 144) i = 4)), if_neg (fun z => w4 z.2 : ¬ (o = 1 ∧ jf v' 1000 (H + 144) i = 4)), eu_X37_push_109]; unfold du_X37_push_109
          rw [jst_in n0 (by omega), Option.bind_some, Wz_1]
          obtain ⟨w5, E5⟩ : ∃ w5, w5 = jp v' 1000 (H + 164) n i := ⟨_, rfl⟩
          obtain ⟨f5, p5, -⟩ := jpF E5
          have sc5 : scV H v' w5 := scV.rfl.wr E5 (by omega)
          rw [← E5]
          exact leafFin (x := (0, i, -1)) (e3.sc scU.rfl sc5) e4 (tfv.trans sc5.tf) sU (sV.trans sc5.va) st n60 hu36 (fun a j ha hj => by rw [f5 _ _ _ (by omega)]; exact t3o a j ha hj) (rd3_eq (by rw [f5 _ _ _ (by omega), hv _ _ (by omega) (by omega)]; exact t3n.1) p5 (by rw [f5 _ _ _ (by omega), hv _ _ (by omega) (by omega)]; exact t3n.2.2)) ⟨by show jin 0; unfold jin; omega, by show -1 ≤ i ∧ i < _; rw [f5 _ _ _ (by omega)]; omega, by show (-1 : Int) ≤ -1 ∧ (-1 : Int) < _; rw [f5 _ _ _ (by omega)]; omega⟩ (mono.wr E5 (by omega))
      · rw [if_neg o1, if_neg (fun z => o1 z.1 : ¬ (o = 1 ∧ jf v' 1000 (H + 144) i = 4)), if_neg (fun z => o1 z.1 : ¬ (o = 1 ∧ jf v' 1000 (H + 144) i = 4)), eu_X37_push_109]; unfold du_X37_push_109
        rw [jst_in n0 (by omega), Option.bind_some, Wz_1]
        obtain ⟨w5, E5⟩ : ∃ w5, w5 = jp v' 1000 (H + 164) n i := ⟨_, rfl⟩
        obtain ⟨f5, p5, -⟩ := jpF E5
        have sc5 : scV H v' w5 := scV.rfl.wr E5 (by omega)
        rw [← E5]
        exact leafFin (x := (0, i, -1)) (e3.sc scU.rfl sc5) e4 (tfv.trans sc5.tf) sU (sV.trans sc5.va) st n60 hu36 (fun a j ha hj => by rw [f5 _ _ _ (by omega)]; exact t3o a j ha hj) (rd3_eq (by rw [f5 _ _ _ (by omega), hv _ _ (by omega) (by omega)]; exact t3n.1) p5 (by rw [f5 _ _ _ (by omega), hv _ _ (by omega) (by omega)]; exact t3n.2.2)) ⟨by show jin 0; unfold jin; omega, by show -1 ≤ i ∧ i < _; rw [f5 _ _ _ (by omega)]; omega, by show (-1 : Int) ≤ -1 ∧ (-1 : Int) < _; rw [f5 _ _ _ (by omega)]; omega⟩ (mono.wr E5 (by omega))
  rw [em_X33_item, em_X37_push]; unfold dm_X33_item dm_X37_push
  rcases ho with ⟨h1, h2⟩ | ⟨h1, h2, h3⟩ | ⟨h1, h2, h3⟩ | h1 | ⟨h1, h2⟩
  · -- a number
    have o0 : o = 0 := h1
    right
    rw [if_pos o0, if_pos o0]
    obtain ⟨t3, e1, w3⟩ := e14 v
    rw [e1, if_pos o0, Wz_1]
    have hv : ∀ a j, (a = H + 163 ∨ a = H + 164 ∨ a = H + 165) → ¬ j = n → jf t3 1000 a j = jf t 1000 a j := fun a j ha hj => w3.2.2 _ _ _ (by omega)
    have n12 : jf t3 41 H 12 = jf t 41 H 12 := w3.2.2 _ _ _ (by omega)
    exact leafFin (x := (v, -1, -1)) (h.sc scU.rfl w3.scv) cFa.rfl w3.scv.tf vaU.rfl w3.scv.va st n60 ⟨st.1, fun _ _ _ => rfl⟩ hv w3.2.1 ⟨h2, by show (-1 : Int) ≤ -1 ∧ (-1 : Int) < _; omega, by show (-1 : Int) ≤ -1 ∧ (-1 : Int) < _; omega⟩ w3.scv.syk
  · have o1 : o = 1 := h1
    rw [if_neg (show ¬ o = 0 by omega), if_pos o1, if_neg (show ¬ o = 0 by omega)]
    obtain ⟨t3, e1, w3⟩ := e14 0
    rw [e1, if_neg (show ¬ o = 0 by omega), if_pos o1]
    have R3 := h.sc scU.rfl w3.scv
    refine sy w3 (symFor3 R3 h2 h3 mN) (fun q hq => ?_) (fun u v' i R i0 i1 => ?_)
    · show jth q.2.1 _ _ = _
      rw [hq]; rfl
    · show jth false _ _ = _
      have c100 := R.2.2.2.1.1.2.1
      obtain ⟨q1, q2, q3, q4, q5, -⟩ := R.2.2.2.1.1.2.2.2.2 i i0 i1
      rw [jth_ff]
      show (jix 100 i (A + 1 + 26 + 1 * i)).bind _ = _
      rw [jix_in i0 (by omega), Option.bind_some]
      have e131 : ∀ x y : Int, u_X33_item_131 u x y A = (m_X33_push u A y x (-1)).bind fun q1 => some (q1.1, false, 0) := fun x y => by
        rw [eu_X33_item_131]; unfold du_X33_item_131; rfl
      by_cases w4 : jf v' 1000 (H + 144) i = 4
      · have u4 : jf u 38 (A + 1 + 26 + 1 * i) 1 = 4 := by
          by_cases cm : jf u 38 (A + 1 + 26 + 1 * i) 1 = -1
          · rw [if_pos cm] at q3; omega
          · rw [if_neg cm] at q3; omega
        have dC : o = 1 ∧ jf v' 1000 (H + 144) i = 4 := ⟨o1, w4⟩
        show (if jf u 38 (A + 1 + 26 + 1 * i) 1 = 4 then u_X33_item_98 u A i 1 else u_X33_item_98 u A i 0) = _
        rw [if_pos u4, if_pos dC, if_pos dC, eu_X33_item_98]; unfold du_X33_item_98
        rw [if_neg (by decide), jix_in i0 (by omega), Option.bind_some, eu_X33_item_120]; unfold du_X33_item_120
        rw [if_neg (by decide), e131, q5]
      · have u4 : ¬ jf u 38 (A + 1 + 26 + 1 * i) 1 = 4 := fun z4 => by
          rw [if_neg (by omega), z4] at q3; exact w4 q3
        have dC : ¬ (o = 1 ∧ jf v' 1000 (H + 144) i = 4) := fun z => w4 z.2
        show (if jf u 38 (A + 1 + 26 + 1 * i) 1 = 4 then u_X33_item_98 u A i 1 else u_X33_item_98 u A i 0) = _
        rw [if_neg u4, if_neg dC, if_neg dC, eu_X33_item_98]; unfold du_X33_item_98
        rw [if_pos rfl, eu_X33_item_120]; unfold du_X33_item_120
        rw [if_pos rfl, e131]
  · have o2 : o = 2 := h1
    rw [if_neg (show ¬ o = 0 by omega), if_neg (show ¬ o = 1 by omega), if_pos o2, if_neg (show ¬ o = 0 by omega)]
    obtain ⟨t3, e1, w3⟩ := e14 0
    rw [e1, if_neg (show ¬ o = 0 by omega), if_neg (show ¬ o = 1 by omega), if_pos o2]
    have R3 := h.sc scU.rfl w3.scv
    have h2' : 0 ≤ v := h2
    have h3' : v ≤ 19 := h3
    have lc := local2 R3 h2' h3' j0 j1 hf (fun c => by rw [w3.2.2 _ _ _ (by omega)]; exact hl o2 c)
    rw [jdv_in (by decide), Option.bind_some, jdv_in (by decide), Option.bind_some, I_div_n h2' (by omega) (by decide) (by decide), I_rem_n h2' (by omega) (by decide) (by decide)]
    have e154 : (if v % 2 = 1 then u_X33_item_154 s j 1 (v / 2) A 0 A else u_X33_item_154 s j 0 (v / 2) A 0 A) = (m_X33_local s A (v / 2) (if v % 2 = 1 then 1 else 0) j).bind fun q1 => jth q1.2.1 (some (q1.1, true, q1.2.2)) ((m_X33_push q1.1 A 0 q1.2.2 (-1)).bind fun q2 => some (q2.1, false, 0)) := by
      by_cases c : v % 2 = 1
      · rw [if_pos c, if_pos c, eu_X33_item_154]; unfold du_X33_item_154; rfl
      · rw [if_neg c, if_neg c, eu_X33_item_154]; unfold du_X33_item_154; rfl
    rw [e154]
    refine sy w3 lc (fun q hq => ?_) (fun u v' i R i0 i1 => ?_)
    · show jth q.2.1 _ _ = _
      rw [hq]; rfl
    · show jth false _ _ = _
      have dC : ¬ (o = 1 ∧ jf v' 1000 (H + 144) i = 4) := fun z => by omega
      rw [jth_ff, if_neg dC, if_neg dC]
  · have o3 : o = 3 := h1
    rw [if_neg (show ¬ o = 0 by omega), if_neg (show ¬ o = 1 by omega), if_neg (show ¬ o = 2 by omega), if_pos o3, if_neg (show ¬ o = 0 by omega)]
    obtain ⟨t3, e1, w3⟩ := e14 0
    rw [e1, if_neg (show ¬ o = 0 by omega), if_neg (show ¬ o = 1 by omega), if_neg (show ¬ o = 2 by omega)]
    have R3 := h.sc scU.rfl w3.scv
    refine sy w3 (here2 R3) (fun q hq => ?_) (fun u v' i R i0 i1 => ?_)
    · show jth q.2.1 _ _ = _
      rw [hq]; rfl
    · show jth false _ _ = _
      have dC : ¬ (o = 1 ∧ jf v' 1000 (H + 144) i = 4) := fun z => by omega
      rw [jth_ff, if_neg dC, if_neg dC]
  · exact absurd o10 (by have h1' : 10 ≤ o := h1; omega)
/-- an item that works on values -/
theorem itemOp {v : Int} (h : AR s t A H b lo NL I OL SL k z) (st : astk s t A H n) (ho : 10 ≤ o ∧ o ≤ 21) (n60 : n ≤ 60) (hd : if o < 12 then 1 ≤ n else 2 ≤ n) (hf : jf s 37 A 34 = z.2.2.1) (j0 : 0 ≤ j) (j1 : j < z.2.2.2.1) :
    (∃ q r0 r, m_X33_item s A o v j = some q ∧ m_X37_apply t H o (n - 1) = some (r0, 0) ∧ u_X37_evaluate_106 r0 H (z.2.2.1 + j) = some (r, 0) ∧ aBad s t A H q r) ∨ itOk s t A H b lo NL I OL SL k z (if o < 12 then n else n - 1) (m_X33_item s A o v j) (m_X37_apply t H o (n - 1)) := by
  obtain ⟨st0, st1, st2⟩ := st
  obtain ⟨o1, o2, o3, o4, o5⟩ := h.op j0 j1
  have hl := h.2.1.len o1 o2
  have cnt0 : 0 ≤ jf t 41 H 12 := h.2.2.2.1.1.2.1.1
  -- the fault, from states between
  have bad : ∀ {s1 t1 : jS}, scU A s s1 → scV H t t1 → ∃ q r, m_X33_needAt s1 A 0 14 j = some q ∧ q = (q.1, true, q.2.2) ∧ u_X37_evaluate_106 t1 H (z.2.2.1 + j) = some (r, 0) ∧ aBad s t A H q r := fun {s1 t1} hs ht => by
    have R1 := h.sc hs ht
    obtain ⟨q, r, e1, e2, e3⟩ := needAt3 (t := t1) (H := H) (o := 14) (j := j) R1.1 R1.2.2.1 R1.bd.2.2 (by decide) o1 o2 hl o5 (by rw [hs.2 _ _ _ (by omega) (by omega)]; exact hf)
    refine ⟨q, r, e1, e3.th, ?_, e3.after hs.cf ht.tf⟩
    rw [eu_X37_evaluate_106]; unfold du_X37_evaluate_106
    rw [y_placeOf R1.2.1 o1 o2, Option.bind_some, e2, Option.bind_some, Wz_0]
  have eq : ∀ i, 0 ≤ i → i < n → rd3 s (A + 23) (A + 24) (A + 25) i = rd3 t (H + 163) (H + 164) (H + 165) i := fun i i0 i1 => (st2 i i0 i1).1
  have go : ∀ i, 0 ≤ i → i < n → vGo (jf t 41 H 12) (rd3 t (H + 163) (H + 164) (H + 165) i) := fun i i0 i1 => (st2 i i0 i1).2
  have ast : astk s t A H n := ⟨st0, st1, st2⟩
  rw [em_X33_item]; unfold dm_X33_item
  rw [if_neg (show ¬ o = 0 by omega), if_neg (show ¬ o = 1 by omega), if_neg (show ¬ o = 2 by omega), if_neg (show ¬ o = 3 by omega), if_neg (show ¬ o = 4 by omega), if_neg (show ¬ o = 5 by omega), if_neg (show ¬ o = 6 by omega), if_neg (show ¬ o = 7 by omega), if_neg (show ¬ o = 8 by omega), if_neg (show ¬ o = 9 by omega)]
  have self : ∀ {u : jS}, jf u 37 A 36 = n → u = jp u 37 A 36 n := fun hu => (jp_same hu).symm
  by_cases c10 : o = 10
  · right
    rw [if_pos (show o < 12 by omega)] at hd ⊢
    rw [if_pos c10, st0, W32_in (z := n - 1) (by omega) (by omega)]
    obtain ⟨u, e1, w1⟩ := c_turn (s := s) (A := A) (m := n - 1) (by omega) (by omega)
    obtain ⟨w, e2, w2⟩ := y_negate (t := t) (H := H) (m := n - 1) (by omega) (by omega)
    have hu : jf u 37 A 36 = n := by rw [w1.2.2 _ _ _ (by omega)]; exact st0
    rw [eq _ (by omega) (by omega)] at w1
    refine ⟨u, w, by rw [e1, Option.bind_some], ?_, h.sc w1.sc w2.scv, w1.sc.cf, w2.scv.tf, w1.sc.va, w2.scv.va, ast.wr w1 w2 (self hu) (go _ (by omega) (by omega)).turn ⟨by omega, fun i i0 i1 => .inl i1⟩, w2.scv.syk⟩
    rw [em_X37_apply]; unfold dm_X37_apply
    rw [if_pos c10, e2, Option.bind_some, Wz_1]
  rw [if_neg c10]
  by_cases c11 : o = 11
  · rw [if_pos (show o < 12 by omega)] at hd ⊢
    rw [if_pos c11, st0, W32_in (z := n - 1) (by omega) (by omega), c_isPlainAt (by omega) (by omega), Option.bind_some]
    have yv : ∃ w, m_X37_apply t H o (n - 1) = some (w, @ite _ (pPl (rd3 t (H + 163) (H + 164) (H + 165) (n - 1))) (Classical.propDecidable _) 1 0) ∧ wr3 t w (H + 163) (H + 164) (H + 165) (n - 1) (pNot (rd3 t (H + 163) (H + 164) (H + 165) (n - 1))) := by
      rw [em_X37_apply]; unfold dm_X37_apply
      rw [if_neg c10, if_pos c11, jlt_in (by omega) (by omega), Option.bind_some, jst_in (by omega) (by omega), Option.bind_some]
      obtain ⟨w, E⟩ : ∃ w, w = jp t 1000 (H + 163) (n - 1) (I_xor (jf t 1000 (H + 163) (n - 1)) (-1)) := ⟨_, rfl⟩
      obtain ⟨f1, p1, -⟩ := jpF E
      have w3 : wr3 t w (H + 163) (H + 164) (H + 165) (n - 1) (pNot (rd3 t (H + 163) (H + 164) (H + 165) (n - 1))) := ⟨by rw [E]; exact jSm.rfl.jp, rd3_eq p1 (f1 _ _ _ (by omega)) (f1 _ _ _ (by omega)), fun c a j z => f1 _ _ _ (by omega)⟩
      rw [← E, y_isNumber (by omega) (by omega), Option.bind_some]
      refine ⟨w, ?_, w3⟩
      have hp : pPl (rd3 w (H + 163) (H + 164) (H + 165) (n - 1)) ↔ pPl (rd3 t (H + 163) (H + 164) (H + 165) (n - 1)) := by
        rw [w3.2.1]; exact Iff.rfl
      by_cases c : pPl (rd3 t (H + 163) (H + 164) (H + 165) (n - 1))
      · rw [if_pos (hp.mpr c), if_pos c, Wz_1]
      · rw [if_neg (fun z => c (hp.mp z)), if_neg c, Wz_0]
    obtain ⟨w, e2, w2⟩ := yv
    rw [e2]
    rw [eq _ (by omega) (by omega)]
    by_cases c : pPl (rd3 t (H + 163) (H + 164) (H + 165) (n - 1))
    rotate_left
    · left
      rw [if_neg c]
      obtain ⟨q, r, a1, a2, a3, a4⟩ := bad (s1 := s) (t1 := w) scU.rfl w2.scv
      exact ⟨q, w, r, by rw [a1, Option.bind_some, a2]; rfl, rfl, a3, a4⟩
    right
    rw [if_pos c, needAt1 (by decide), Option.bind_some]
    have ex : ∃ u, (jth false (some (s, true, (0 : Int))) ((jlt s 1000 (A + 23) 2000 (W32 (jf s 37 A 36 - 1))).bind fun v11 => (jst s 1000 (A + 23) 2000 (W32 (jf s 37 A 36 - 1)) (I_xor v11 (-1))).bind fun s12 => some (s12, false, (0 : Int)))) = some (u, false, 0) ∧ wr3 s u (A + 23) (A + 24) (A + 25) (n - 1) (pNot (rd3 s (A + 23) (A + 24) (A + 25) (n - 1))) := by
      rw [jth_ff, st0, W32_in (z := n - 1) (by omega) (by omega), jlt_in (by omega) (by omega), Option.bind_some, jst_in (by omega) (by omega), Option.bind_some]
      exact ⟨_, rfl, jSm.rfl.jp, rd3_eq (jf_pos ⟨rfl, rfl, rfl⟩) (jf_neg (by omega)) (jf_neg (by omega)), fun c a j z => jf_neg (by omega)⟩
    obtain ⟨u, e1, w1⟩ := ex
    have hu : jf u 37 A 36 = n := by rw [w1.2.2 _ _ _ (by omega)]; exact st0
    rw [eq _ (by omega) (by omega)] at w1
    exact ⟨u, w, e1, rfl, h.sc w1.sc w2.scv, w1.sc.cf, w2.scv.tf, w1.sc.va, w2.scv.va, ast.wr w1 w2 (self hu) ⟨I_xor_b _ _, (go _ (by omega) (by omega)).2⟩ ⟨by omega, fun i i0 i1 => .inl i1⟩, w2.scv.syk⟩
  rw [if_neg c11]
  rw [if_neg (show ¬ o < 12 by omega)] at hd ⊢
  rw [eu_X33_item_227]; unfold du_X33_item_227
  simp only [jls]
  obtain ⟨s1, E1⟩ : ∃ s1, s1 = jp s 37 A 36 (n - 1) := ⟨_, rfl⟩
  obtain ⟨f1, p1, -⟩ := jpF E1
  have sc1 : scU A s s1 := scU.rfl.wr E1 (by omega)
  rw [st0, W32_in (z := n - 1) (by omega) (by omega), ← E1, p1]
  have nm : n - 1 = n - 2 + 1 := by omega
  have r1 : ∀ i, rd3 s1 (A + 23) (A + 24) (A + 25) i = rd3 s (A + 23) (A + 24) (A + 25) i := fun i => by unfold rd3; rw [f1 _ _ _ (by omega), f1 _ _ _ (by omega), f1 _ _ _ (by omega)]
  -- the end, where both have worked out
  have fin : ∀ {s2 t2 u w : jS} {x : vT}, scU A s s2 → scV H t t2 → wr3 s2 u (A + 23) (A + 24) (A + 25) (n - 2) x → wr3 t2 w (H + 163) (H + 164) (H + 165) (n - 2) x → jf s2 37 A 36 = n - 1 → (∀ i, 0 ≤ i → i < n - 2 → rd3 s2 (A + 23) (A + 24) (A + 25) i = rd3 s (A + 23) (A + 24) (A + 25) i ∧ rd3 t2 (H + 163) (H + 164) (H + 165) i = rd3 t (H + 163) (H + 164) (H + 165) i) → vGo (jf t 41 H 12) x → ∀ {X : Option (jS × Bool × Int)} {Y : Option (jS × Int)}, X = some (u, false, 0) → Y = some (w, 1) → itOk s t A H b lo NL I OL SL k z (n - 1) X Y := fun {s2 t2 u w x} hs ht w1 w2 h36 hr hx {X Y} hX hY => by
    have su := hs.trans w1.sc
    have tv := ht.trans w2.scv
    have t12 : jf w 41 H 12 = jf t 41 H 12 := tv.2 _ _ _ (by omega) (by omega)
    refine ⟨u, w, hX, hY, h.sc su tv, su.cf, tv.tf, su.va, tv.va, ⟨by rw [w1.2.2 _ _ _ (by omega)]; exact h36, by omega, fun i i0 i1 => ?_⟩, tv.syk⟩
    rw [t12]
    by_cases ci : i = n - 2
    · subst ci; rw [w1.2.1, w2.2.1]; exact ⟨rfl, hx⟩
    · have hi : i < n - 2 := by omega
      obtain ⟨k1, k2⟩ := hr i i0 hi
      have e1 : rd3 u (A + 23) (A + 24) (A + 25) i = rd3 s2 (A + 23) (A + 24) (A + 25) i := by unfold rd3; rw [w1.2.2 _ _ _ (by omega), w1.2.2 _ _ _ (by omega), w1.2.2 _ _ _ (by omega)]
      have e2 : rd3 w (H + 163) (H + 164) (H + 165) i = rd3 t2 (H + 163) (H + 164) (H + 165) i := by unfold rd3; rw [w2.2.2 _ _ _ (by omega), w2.2.2 _ _ _ (by omega), w2.2.2 _ _ _ (by omega)]
      rw [e1, e2, k1, k2]; exact st2 i i0 (by omega)
  -- sums
  have sums : ∀ {s2 t2 : jS}, o < 14 → scU A s s2 → scV H t t2 → jf s2 37 A 36 = n - 1 → (∀ i, 0 ≤ i → i < n → rd3 s2 (A + 23) (A + 24) (A + 25) i = rd3 t2 (H + 163) (H + 164) (H + 165) i ∧ vGo (jf t 41 H 12) (rd3 t2 (H + 163) (H + 164) (H + 165) i)) → (∀ i, 0 ≤ i → i < n - 2 → rd3 s2 (A + 23) (A + 24) (A + 25) i = rd3 s (A + 23) (A + 24) (A + 25) i ∧ rd3 t2 (H + 163) (H + 164) (H + 165) i = rd3 t (H + 163) (H + 164) (H + 165) i) → (∃ q r0 r, u_X33_item_251 s2 A o j = some q ∧ u_X37_apply_50 t2 H o (n - 1) = some (r0, 0) ∧ u_X37_evaluate_106 r0 H (z.2.2.1 + j) = some (r, 0) ∧ aBad s t A H q r) ∨ itOk s t A H b lo NL I OL SL k z (n - 1) (u_X33_item_251 s2 A o j) (u_X37_apply_50 t2 H o (n - 1)) := fun {s2 t2} o14 hs ht h36 he hr => by
    rw [eu_X33_item_251, eu_X37_apply_50]; unfold du_X33_item_251 du_X37_apply_50
    rw [if_pos o14, if_pos o14, W32_in (z := n - 1 - 1) (by omega) (by omega), show n - 1 - 1 = n - 2 by omega]
    have ys := y_sumV (t := t2) (H := H) (m := n - 2) (by omega) (by omega)
    have e1 := (he (n - 2) (by omega) (by omega)).1
    have e2 := (he (n - 2 + 1) (by omega) (by omega)).1
    by_cases g : pAdG (rd3 t2 (H + 163) (H + 164) (H + 165) (n - 2)) (rd3 t2 (H + 163) (H + 164) (H + 165) (n - 2 + 1))
    · right
      obtain ⟨w, y1, y2⟩ := ys.1 g
      obtain ⟨u, x1, x2⟩ := c_addUp (s := s2) (A := A) (m := n - 2) (j := j) (by rw [h36]; exact nm) (by omega) (by omega) (by rw [e1, e2]; exact g)
      rw [e1, e2] at x2
      exact fin hs ht x2 y2 h36 hr ((he _ (by omega) (by omega)).2.ad (he _ (by omega) (by omega)).2 cnt0) (by rw [x1, Option.bind_some]; rfl) (by rw [y1, Option.bind_some, Wz_1])
    · left
      obtain ⟨q, r, a1, a2, a3, a4⟩ := bad (s1 := s2) (t1 := t2) hs ht
      have cb := c_addB (s := s2) (A := A) (m := n - 2) (j := j) (q1 := q.1) (q3 := q.2.2) (by rw [h36]; exact nm) (by omega) (by omega) (by rw [e1, e2]; exact g) (by rw [a1]; exact congrArg some a2)
      exact ⟨q, t2, r, by rw [cb, Option.bind_some, a2]; rfl, by rw [ys.2 g, Option.bind_some, Wz_0], a3, a4⟩
  by_cases c13 : o = 13
  · rw [if_pos c13]
    obtain ⟨u, e1, w1⟩ := c_turn (s := s1) (A := A) (m := n - 1) (by omega) (by omega)
    obtain ⟨w, e2, w2⟩ := y_negate (t := t) (H := H) (m := n - 1) (by omega) (by omega)
    rw [e1, Option.bind_some, em_X37_apply]; unfold dm_X37_apply
    rw [if_neg c10, if_neg c11, if_pos c13, e2, Option.bind_some]
    refine sums (by omega) (sc1.trans w1.sc) w2.scv (by rw [w1.2.2 _ _ _ (by omega)]; exact p1) (fun i i0 i1 => ?_) (fun i i0 i1 => ?_)
    · by_cases ci : i = n - 1
      · subst ci
        rw [w1.2.1, w2.2.1, r1, eq _ (by omega) (by omega)]
        exact ⟨rfl, (go _ (by omega) (by omega)).turn⟩
      · have k1 : rd3 u (A + 23) (A + 24) (A + 25) i = rd3 s1 (A + 23) (A + 24) (A + 25) i := by unfold rd3; rw [w1.2.2 _ _ _ (by omega), w1.2.2 _ _ _ (by omega), w1.2.2 _ _ _ (by omega)]
        have k2 : rd3 w (H + 163) (H + 164) (H + 165) i = rd3 t (H + 163) (H + 164) (H + 165) i := by unfold rd3; rw [w2.2.2 _ _ _ (by omega), w2.2.2 _ _ _ (by omega), w2.2.2 _ _ _ (by omega)]
        rw [k1, k2, r1]; exact st2 i i0 (by omega)
    · have k1 : rd3 u (A + 23) (A + 24) (A + 25) i = rd3 s1 (A + 23) (A + 24) (A + 25) i := by unfold rd3; rw [w1.2.2 _ _ _ (by omega), w1.2.2 _ _ _ (by omega), w1.2.2 _ _ _ (by omega)]
      have k2 : rd3 w (H + 163) (H + 164) (H + 165) i = rd3 t (H + 163) (H + 164) (H + 165) i := by unfold rd3; rw [w2.2.2 _ _ _ (by omega), w2.2.2 _ _ _ (by omega), w2.2.2 _ _ _ (by omega)]
      exact ⟨k1.trans (r1 i), k2⟩
  rw [if_neg c13]
  by_cases c12 : o = 12
  · rw [em_X37_apply]; unfold dm_X37_apply
    rw [if_neg c10, if_neg c11, if_neg c13]
    exact sums (by omega) sc1 scV.rfl p1 (fun i i0 i1 => by rw [r1]; exact st2 i i0 i1) (fun i i0 i1 => ⟨r1 i, rfl⟩)
  -- what is reckoned
  rw [eu_X33_item_251]; unfold du_X33_item_251
  rw [if_neg (show ¬ o < 14 by omega)]
  have ya := y_apply_b (t := t) (H := H) (m := n - 2) (o := o) (by omega) (by omega) (by omega)
  rw [← nm] at ya
  have e1 := eq (n - 2) (by omega) (by omega)
  have e2 := eq (n - 1) (by omega) (by omega)
  by_cases g : pReG o (rd3 t (H + 163) (H + 164) (H + 165) (n - 2)) (rd3 t (H + 163) (H + 164) (H + 165) (n - 1))
  · right
    obtain ⟨w, y1, y2⟩ := ya.1 g
    obtain ⟨u, x1, x2⟩ := c_reckon (s := s1) (A := A) (m := n - 2) (o := o) (j := j) (by rw [p1]; exact nm) (by omega) (by omega) (by omega) (by rw [← nm, r1, r1, e1, e2]; exact g)
    rw [← nm, r1, r1, e1, e2] at x2
    exact fin sc1 scV.rfl x2 y2 p1 (fun i i0 i1 => ⟨r1 i, rfl⟩) (vGo.re cnt0) (by rw [x1, Option.bind_some]; rfl) y1
  · left
    obtain ⟨q, r, a1, a2, a3, a4⟩ := bad (s1 := s1) (t1 := t) sc1 scV.rfl
    have cb := c_reckonB (s := s1) (A := A) (m := n - 2) (o := o) (j := j) (q1 := q.1) (q3 := q.2.2) (by rw [p1]; exact nm) (by omega) (by omega) (by rw [← nm, r1, r1, e1, e2]; exact g) (by rw [a1]; exact congrArg some a2)
    exact ⟨q, t, r, by rw [cb, Option.bind_some, a2]; rfl, ya.2 g, a3, a4⟩
end jAsma
