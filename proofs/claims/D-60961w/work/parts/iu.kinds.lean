/-! instructions by their kind's pattern: all operands, both sides (printed by gen_bk.py) -/
set_option maxRecDepth 100000
section jKinds
variable {s t u w s1 t1 : jS} {v A H b lo k c a x y d n o j kd mk m i pt J : Int} {l : List Int} {L : List Nat} {NL : List (List Int)} {I : pI} {OL : List pvO} {SL : List pvS} {z : pvS} {zo : pvO} {Q Q' : jS → jS → Int → Prop} {xx : Option (jS × Bool × Int)} {yy : Option (jS × Int)}
/-- which part each operand is, as digits -/
def ptC (p : Int) : List Int := if p = 0 then [] else if p = 1 then [48, 49, 50] else if p = 2 then [48, 49, 51] else if p = 3 then [48, 51] else if p = 4 then [50, 51] else if p = 5 then [49, 50, 51] else if p = 6 then [48, 51] else if p = 7 then [48, 51] else if p = 8 then [51] else if p = 9 then [49, 51] else if p = 10 then [48, 50] else if p = 11 then [49] else if p = 12 then [48, 51] else if p = 13 then [48, 51] else if p = 14 then [50, 51] else if p = 15 then [48, 52, 51] else [52, 51]
/-- the parts of a pattern -/
def ptD (p : Int) : List Nat := if p = 0 then [] else if p = 1 then [0, 1, 2] else if p = 2 then [0, 1, 3] else if p = 3 then [0, 1, 3] else if p = 4 then [1, 2, 3] else if p = 5 then [1, 2, 3] else if p = 6 then [0, 3] else if p = 7 then [0, 3] else if p = 8 then [3] else if p = 9 then [1, 3] else if p = 10 then [0, 2] else if p = 11 then [1] else if p = 12 then [0, 3] else if p = 13 then [0, 3] else if p = 14 then [2, 3] else if p = 15 then [0, 3] else [3]
theorem pt_cls : ∀ k : Nat, k < 75 → ∀ e : Nat, e < 4 → (¬ (cFd k e).1 = 0 ↔ e ∈ ptD (cKd k).1) := by decide +kernel
theorem bk_end (h : AG s t A H b lo NL I OL SL k z) (hj : ¬ j < z.2.2.2.1) : u_X33_byKind_70 s A kd pt x (A + 26) m j = u_X33_byKind_240 s A kd (A + 26) m := by
  rw [eu_X33_byKind_70]; unfold du_X33_byKind_70
  refine jlpW_r (r := u_X33_byKind_240 s A kd (A + 26) m) ?_
  show b_X33_byKind_70 s A kd pt x (A + 26) m j = _
  unfold b_X33_byKind_70
  rw [h.2.1.2.2.1, if_neg hj]
theorem bk_4 (h : AG s t A H b lo NL I OL SL k z) (hx : pSg s x l) (j0 : 0 ≤ j) (j1 : j < z.2.2.2.1) (hl : l[j.toNat]? = some 52) : u_X33_byKind_70 s A kd pt x (A + 26) m j = u_X33_byKind_70 s A kd pt x (A + 26) m (j + 1) := by
  obtain ⟨o1, o2, o3, og, o5⟩ := h.1.op j0 j1
  have st0 := h.1.st0
  have jl : j < l.length := by have := (List.getElem?_eq_some_iff.mp hl).1; omega
  have hd : l.getD j.toNat 0 = 52 := by rw [List.getD_eq_getElem?_getD, hl]; rfl
  rw [eu_X33_byKind_70]; unfold du_X33_byKind_70
  refine jlpW_l ?_
  show b_X33_byKind_70 s A kd pt x (A + 26) m j = _
  unfold b_X33_byKind_70
  rw [h.2.1.2.2.1, if_pos j1, s_charAt hx j0 jl, Option.bind_some, hd]
  simp only [jlet]
  rw [W32_in (z := 52 - 48) (by omega) (by omega), if_pos (by decide), eu_X33_byKind_234]; unfold du_X33_byKind_234
  rw [W32_in (by omega) (by omega)]
/-- the loop behind a step -/
noncomputable def bkX (A kd pt x m j : Int) (q : jS × Bool × Int) : Option (jS × Bool × Int) := jth q.2.1 (some (q.1, true, q.2.2)) (u_X33_byKind_70 q.1 A kd pt x (A + 26) m j)
theorem bk_u (q : jS × Bool × Int) (hw : W32 (j + 1) = j + 1) : (jth q.2.1 (jinr (some (q.1, true, q.2.2))) (u_X33_byKind_234 q.1 A kd pt x (A + 26) m j)).bind (jcont (jc7 b_X33_byKind_70)) = bkX A kd pt x m (j + 1) q := by
  obtain ⟨u, c, d⟩ := q
  cases c with
  | true => rfl
  | false =>
    unfold bkX
    rw [eu_X33_byKind_234, eu_X33_byKind_70]; unfold du_X33_byKind_234 du_X33_byKind_70
    rw [hw]; rfl
theorem bk_R (h : AG s t A H b lo NL I OL SL k z) (hx : pSg s x l) (k0 : 0 ≤ kd) (k1 : kd < 75) (j0 : 0 ≤ j) (j1 : j < z.2.2.2.1) {e : Nat} (he : e < 3) (hl : l[j.toNat]? = some (48 + (e : Int))) (hcl : ¬ (cFd kd.toNat e).1 = 0) :
    u_X33_byKind_70 s A kd pt x (A + 26) m j = (m_X33_needAt (jp s 1000 (A + 26) e (tO OL (z.2.2.1 + j)).2.1) A (if pReg kd.toNat e (tO OL (z.2.2.1 + j)).2.1 = true then 1 else 0) 15 j).bind (bkX A kd pt x m (j + 1)) := by
  obtain ⟨o1, o2, o3, og, o5⟩ := h.1.op j0 j1
  have st0 := h.1.st0
  have hw : W32 (j + 1) = j + 1 := W32_in (by omega) (by omega)
  have jl : j < l.length := by have := (List.getElem?_eq_some_iff.mp hl).1; omega
  have hd : l.getD j.toNat 0 = 48 + (e : Int) := by rw [List.getD_eq_getElem?_getD, hl]; rfl
  have e8 : 48 + (e : Int) - 48 = e := by omega
  rw [eu_X33_byKind_70]; unfold du_X33_byKind_70
  rw [jlpW_stc]
  generalize hC : jcont (jc7 b_X33_byKind_70) = CC
  show (b_X33_byKind_70 s A kd pt x (A + 26) m j).bind CC = _
  unfold b_X33_byKind_70
  rw [h.2.1.2.2.1, if_pos j1, s_charAt hx j0 jl, Option.bind_some, hd]
  simp only [jlet]
  rw [e8, W32_in (z := (e : Int)) (by omega) (by omega), if_neg (by omega), if_neg (by omega), c_rgst h j0 j1, Option.bind_some]
  generalize (tO OL (z.2.2.1 + j)).2.1 = r
  obtain ⟨u1, E1⟩ : ∃ u1, u1 = jp s 1000 (A + 26) e r := ⟨_, rfl⟩
  obtain ⟨f1, p1, -⟩ := jpF E1
  have g : AG u1 t A H b lo NL I OL SL k z := h.scr (cFa.rfl.wr E1 (by omega)) (fun c a i z1 z2 => f1 _ _ _ (by omega)) tF.rfl opV.rfl
  obtain ⟨a1, a2⟩ := g.wa.at k0 k1
  rw [eu_X33_byKind_126]; unfold du_X33_byKind_126
  rw [jst_in (by omega) (by omega), Option.bind_some, ← E1, if_neg (by omega), eu_X33_byKind_137]; unfold du_X33_byKind_137
  rw [if_neg (by omega), a1, Option.bind_some, jlt_in (by omega) (by omega), Option.bind_some, p1, jct_in a2.t, c_mayR g.wa k0 k1 he hcl, Option.bind_some, eu_X33_byKind_167]; unfold du_X33_byKind_167
  have e172 : ∀ y, (u_X33_byKind_172 u1 A kd pt x (A + 26) m j e y A).bind (jcont (jc7 b_X33_byKind_70)) = (m_X33_needAt u1 A y 15 j).bind (bkX A kd pt x m (j + 1)) := fun y => by
    rw [eu_X33_byKind_172]; unfold du_X33_byKind_172
    rw [Option.bind_assoc]
    congr 1
    funext q
    rw [if_neg (by omega)]
    exact bk_u q hw
  by_cases c : pReg kd.toNat e r = true
  · rw [if1 c, if_neg n10, ← hC]; exact e172 1
  · rw [if0 c, if_pos rfl, ← hC]; exact e172 0
theorem bk_I (h : AG s t A H b lo NL I OL SL k z) (hx : pSg s x l) (j0 : 0 ≤ j) (j1 : j < z.2.2.2.1) (hl : l[j.toNat]? = some 51) :
    u_X33_byKind_70 s A kd pt x (A + 26) m j = (m_X33_immediate s A kd pt j).bind fun q => jth q.2.1 (some (q.1, true, q.2.2)) ((u_X33_byKind_126 q.1 A kd pt x (A + 26) m j 3 q.2.2 3 (A + 26)).bind (jcont (jc7 b_X33_byKind_70))) := by
  obtain ⟨o1, o2, o3, og, o5⟩ := h.1.op j0 j1
  have st0 := h.1.st0
  have jl : j < l.length := by have := (List.getElem?_eq_some_iff.mp hl).1; omega
  have hd : l.getD j.toNat 0 = 51 := by rw [List.getD_eq_getElem?_getD, hl]; rfl
  rw [eu_X33_byKind_70]; unfold du_X33_byKind_70
  rw [jlpW_stc]
  show (b_X33_byKind_70 s A kd pt x (A + 26) m j).bind _ = _
  unfold b_X33_byKind_70
  rw [h.2.1.2.2.1, if_pos j1, s_charAt hx j0 jl, Option.bind_some, hd]
  simp only [jlet]
  rw [W32_in (z := 51 - 48) (by omega) (by omega), if_neg (by decide), if_pos (by decide), Option.bind_assoc]
  congr 1
  funext q
  obtain ⟨u, c, d⟩ := q
  cases c with
  | true => rfl
  | false => rfl
theorem bk_I2 (g : AG u w A H b lo NL I OL SL k z) (hw : W32 (j + 1) = j + 1) : (u_X33_byKind_126 u A kd pt x (A + 26) m j 3 d 3 (A + 26)).bind (jcont (jc7 b_X33_byKind_70)) = if pt = 3 ∨ pt = 4 then (u_X33_byKind_198 (jp u 1000 (A + 26) 3 d) A kd pt x (A + 26) j j).bind (jcont (jc7 b_X33_byKind_70)) else u_X33_byKind_70 (jp u 1000 (A + 26) 3 d) A kd pt x (A + 26) j (j + 1) := by
  rw [eu_X33_byKind_126]; unfold du_X33_byKind_126
  rw [jst_in (by omega) (by omega), Option.bind_some, if_pos (by decide), eu_X33_byKind_137]; unfold du_X33_byKind_137
  rw [if_pos (by decide), eu_X33_byKind_167]; unfold du_X33_byKind_167
  rw [eu_X33_byKind_172]; unfold du_X33_byKind_172
  rw [needAt1 n10, Option.bind_some]
  dsimp only
  rw [jth_ff, if_pos (by decide)]
  have l2 : (u_X33_byKind_234 (jp u 1000 (A + 26) 3 d) A kd pt x (A + 26) j j).bind (jcont (jc7 b_X33_byKind_70)) = u_X33_byKind_70 (jp u 1000 (A + 26) 3 d) A kd pt x (A + 26) j (j + 1) := bk_u (jp u 1000 (A + 26) 3 d, false, 0) hw
  by_cases c3 : pt = 3
  · rw [if_pos c3, if_pos (.inl c3)]
  rw [if_neg c3]
  by_cases c4 : pt = 4
  · rw [if_pos c4, if_pos (.inr c4)]
  · rw [if_neg c4, if_neg (by omega), l2]
theorem bk_198 (g : AG u w A H b lo NL I OL SL k z) (k0 : 0 ≤ kd) (k1 : kd < 75) (j0 : 0 ≤ j) (j1 : j < z.2.2.2.1) (hcl : ¬ (cFd kd.toNat 1).1 = 0) : (u_X33_byKind_198 u A kd pt x (A + 26) m j).bind (jcont (jc7 b_X33_byKind_70)) = (m_X33_needAt (jp u 1000 (A + 26) (1 : Nat) (tO OL (z.2.2.1 + j)).2.1) A (if pReg kd.toNat 1 (tO OL (z.2.2.1 + j)).2.1 = true then 1 else 0) 15 j).bind (bkX A kd pt x m (j + 1)) := by
  obtain ⟨o1, o2, o3, og, o5⟩ := g.1.op j0 j1
  have st0 := g.1.st0
  have hw : W32 (j + 1) = j + 1 := W32_in (by omega) (by omega)
  rw [eu_X33_byKind_198]; unfold du_X33_byKind_198
  rw [c_rgst g j0 j1, Option.bind_some]
  generalize (tO OL (z.2.2.1 + j)).2.1 = r
  obtain ⟨u1, E1⟩ : ∃ u1, u1 = jp u 1000 (A + 26) (1 : Nat) r := ⟨_, rfl⟩
  obtain ⟨f1, p1, -⟩ := jpF E1
  have g' : AG u1 w A H b lo NL I OL SL k z := g.scr (cFa.rfl.wr E1 (by omega)) (fun c a i z1 z2 => f1 _ _ _ (by omega)) tF.rfl opV.rfl
  obtain ⟨a1, a2⟩ := g'.wa.at k0 k1
  have n1 : ((1 : Nat) : Int) = 1 := rfl
  have cm := c_mayR (v := r) g'.wa k0 k1 (show 1 < 3 by decide) hcl
  rw [n1] at E1 p1 cm
  rw [n1, jst_in (by omega) (by omega), Option.bind_some, ← E1, a1, Option.bind_some, jlt_in (by omega) (by omega), Option.bind_some, p1, jct_in a2.t, cm, Option.bind_some, Option.bind_assoc]
  congr 1
  funext q
  exact bk_u q hw
/-- a register in the loop -/
theorem bk_reg {G : jS × Int → Option (jS × Int)} (h : AG s t A H b lo NL I OL SL k z) (hR : oRt s t A H m) (hG : gdT kd t H L) (hx : pSg s x l) (k0 : 0 ≤ kd) (k1 : kd < 75) (j0 : 0 ≤ j) (j1 : j < z.2.2.2.1) {e : Nat} (he : e < 3) (heL : e ∉ L) (hl : l[j.toNat]? = some (48 + (e : Int))) (hcl : ¬ (cFd kd.toNat e).1 = 0) (hs : (tO OL (z.2.2.1 + j)).1 = 1 ∨ (tO OL (z.2.2.1 + j)).1 = 2) (hJ : J = z.2.2.1 + j) (hg : ∀ r, G (r, 0) = some (r, 0))
    (hc : ∀ u w, AG u w A H b lo NL I OL SL k z → oRt u w A H m → gdT kd w H (e :: L) → kS H t w → jf w 41 H 59 = jf t 41 H 59 → cFa A s u 0 0 → stO u w A H b lo NL I OL SL k z (u_X33_byKind_70 u A kd pt x (A + 26) m (j + 1)) (G (w, 1)) Q) :
    stO s t A H b lo NL I OL SL k z (u_X33_byKind_70 s A kd pt x (A + 26) m j) ((m_X37_takeRegister t H kd e J).bind G) Q := by
  subst hJ
  rw [bk_R h hx k0 k1 j0 j1 he hl hcl]
  refine reg2 h hR hG k0 k1 j0 j1 he hcl hs heL (fun _ _ => rfl) hg fun u w g r d q y c => ?_
  unfold bkX
  dsimp only
  rw [jth_ff]
  exact hc u w g r d q y c
theorem nQ.st {u1 : jS} (h : nQ kd t A H L j u w d) (E1 : u1 = jp u 1000 (A + 26) 3 d) : oRt u1 w A H j ∧ gdT kd w H (3 :: L) := by
  obtain ⟨h1, h2, h3, ⟨h4, h5⟩, h6, h7⟩ := h
  obtain ⟨f1, p1, -⟩ := jpF E1
  refine ⟨⟨fun i i0 i1 _ => ?_, ?_⟩, fun e he => ?_⟩
  · by_cases c : i = 3
    · subst c; rw [p1, h3]; exact ⟨rfl, h5⟩
    · rw [f1 _ _ _ (by omega)]; exact h1 i i0 i1 c
  · unfold oM at h2 ⊢
    rw [f1 _ _ _ (by omega), f1 _ _ _ (by omega), f1 _ _ _ (by omega)]; exact h2
  · rcases List.mem_cons.mp he with he | he
    · subst he
      have : ((3 : Nat) : Int) = 3 := rfl
      rw [this, h3]; exact h4
    · exact h6 e he
theorem bk_stp {G : jS × Int → Option (jS × Int)} {Y : Option (jS × Int)} (h : AG s t A H b lo NL I OL SL k z) (hx : pSg s x l) (j0 : 0 ≤ j) (j1 : j < z.2.2.2.1) (hl : l[j.toNat]? = some 51) (hn : stO s t A H b lo NL I OL SL k z (m_X33_immediate s A kd pt j) Y fun u w d => nQ kd t A H L j u w d) (hg : ∀ r, G (r, 0) = some (r, 0))
    (hc : ∀ u w, AG u w A H b lo NL I OL SL k z → oRt u w A H j → gdT kd w H (3 :: L) → kS H t w → cFa A s u 0 0 → stO u w A H b lo NL I OL SL k z (if pt = 3 ∨ pt = 4 then (u_X33_byKind_198 u A kd pt x (A + 26) j j).bind (jcont (jc7 b_X33_byKind_70)) else u_X33_byKind_70 u A kd pt x (A + 26) j (j + 1)) (G (w, 1)) Q) :
    stO s t A H b lo NL I OL SL k z (u_X33_byKind_70 s A kd pt x (A + 26) m j) (Y.bind G) Q := by
  obtain ⟨o1, o2, o3, og, o5⟩ := h.1.op j0 j1
  have st0 := h.1.st0
  have hw : W32 (j + 1) = j + 1 := W32_in (by omega) (by omega)
  rw [bk_I h hx j0 j1 hl]
  refine hn.bind (fun _ _ => rfl) hg fun u w d g c1 c2 q => ?_
  dsimp only
  rw [jth_ff, bk_I2 g hw]
  obtain ⟨u1, E1⟩ : ∃ u1, u1 = jp u 1000 (A + 26) 3 d := ⟨_, rfl⟩
  obtain ⟨f1, p1, -⟩ := jpF E1
  have cF : cFa A u u1 0 0 := cFa.rfl.wr E1 (by omega)
  have g' : AG u1 w A H b lo NL I OL SL k z := g.scr cF (fun c a i z1 z2 => f1 _ _ _ (by omega)) tF.rfl opV.rfl
  obtain ⟨r1, r2⟩ := q.st E1
  rw [← E1]
  exact (hc u1 w g' r1 r2 q.2.2.2.2.2 (c1.tr0 cF)).pre cF tF.rfl
/-- a target in the loop -/
theorem bk_tgt {G : jS × Int → Option (jS × Int)} (h : AG s t A H b lo NL I OL SL k z) (hR : oRt s t A H m) (hG : gdT kd t H L) (hx : pSg s x l) (hz : jf t 41 H 59 = 0) (h3 : 3 ∉ L) (k0 : 0 ≤ kd) (k1 : kd < 75) (hp : (cKd kd.toNat).1 = pt) (hpt : pt = 5 ∨ 7 ≤ pt ∧ pt ≤ 9) (j0 : 0 ≤ j) (j1 : j < z.2.2.2.1) (hl : l[j.toNat]? = some 51) (hs : (tO OL (z.2.2.1 + j)).1 = 0 ∨ (tO OL (z.2.2.1 + j)).1 = 2) (hJ : J = z.2.2.1 + j) (hg : ∀ r, G (r, 0) = some (r, 0))
    (hc : ∀ u w, AG u w A H b lo NL I OL SL k z → oRt u w A H j → gdT kd w H (3 :: L) → kS H t w → cFa A s u 0 0 → stO u w A H b lo NL I OL SL k z (u_X33_byKind_70 u A kd pt x (A + 26) j (j + 1)) (G (w, 1)) Q) :
    stO s t A H b lo NL I OL SL k z (u_X33_byKind_70 s A kd pt x (A + 26) m j) ((m_X37_takeTarget t H kd J).bind G) Q := by
  subst hJ
  refine bk_stp h hx j0 j1 hl (tgt2 h hR hG hz h3 k0 k1 hp hpt j0 j1 hs) hg fun u w g r d q c => ?_
  rw [if_neg (by omega)]
  exact hc u w g r d q c
/-- a number in the loop -/
theorem bk_num {G : jS × Int → Option (jS × Int)} (h : AG s t A H b lo NL I OL SL k z) (hR : oRt s t A H m) (hG : gdT kd t H L) (hx : pSg s x l) (hz : jf t 41 H 59 = 0) (h3 : 3 ∉ L) (k0 : 0 ≤ kd) (k1 : kd < 75) (hp : (cKd kd.toNat).1 = pt) (hpt : ¬ (pt = 5 ∨ 7 ≤ pt ∧ pt ≤ 9)) (h34 : ¬ (pt = 3 ∨ pt = 4)) (hcl : ¬ (cFd kd.toNat 3).1 = 0) (j0 : 0 ≤ j) (j1 : j < z.2.2.2.1) (hl : l[j.toNat]? = some 51) (hs : (tO OL (z.2.2.1 + j)).1 = 0 ∨ (tO OL (z.2.2.1 + j)).1 = 2) (hmk : mkTw kd (tO OL (z.2.2.1 + j)).2.2.1) (hJ : J = z.2.2.1 + j) (hg : ∀ r, G (r, 0) = some (r, 0))
    (hc : ∀ u w, AG u w A H b lo NL I OL SL k z → oRt u w A H j → gdT kd w H (3 :: L) → kS H t w → cFa A s u 0 0 → stO u w A H b lo NL I OL SL k z (u_X33_byKind_70 u A kd pt x (A + 26) j (j + 1)) (G (w, 1)) Q) :
    stO s t A H b lo NL I OL SL k z (u_X33_byKind_70 s A kd pt x (A + 26) m j) ((m_X37_takeNumber t H kd J).bind G) Q := by
  subst hJ
  refine bk_stp h hx j0 j1 hl (num2 h hR hG hz h3 k0 k1 hp hpt hcl j0 j1 hs hmk) hg fun u w g r d q c => ?_
  rw [if_neg h34]
  exact hc u w g r d q c
theorem mem_1 : m_X37_takeMemory t H kd J 1 = (m_X37_takeNumber t H kd J).bind fun q1 => if q1.2 = 0 then some (q1.1, Wz 0) else some (q1.1, Wz 1) := by
  rw [em_X37_takeMemory]; unfold dm_X37_takeMemory
  simp only [if_neg n10]
/-- a memory in the loop -/
theorem bk_mem {G : jS × Int → Option (jS × Int)} (h : AG s t A H b lo NL I OL SL k z) (hR : oRt s t A H m) (hG : gdT kd t H L) (hx : pSg s x l) (hz : jf t 41 H 59 = 0) (h3 : 3 ∉ L) (k0 : 0 ≤ kd) (k1 : kd < 75) (hp : (cKd kd.toNat).1 = pt) (h34 : pt = 3 ∨ pt = 4) (hcl : ¬ (cFd kd.toNat 3).1 = 0) (hcl1 : ¬ (cFd kd.toNat 1).1 = 0) (h1 : 1 ∉ L) (j0 : 0 ≤ j) (j1 : j < z.2.2.2.1) (hl : l[j.toNat]? = some 51) (hs : (tO OL (z.2.2.1 + j)).1 = 0 ∨ (tO OL (z.2.2.1 + j)).1 = 2) (hs2 : (tO OL (z.2.2.1 + j)).1 = 2) (hmk : mkTw kd (tO OL (z.2.2.1 + j)).2.2.1) (hJ : J = z.2.2.1 + j) (hg : ∀ r, G (r, 0) = some (r, 0))
    (hc : ∀ u w, AG u w A H b lo NL I OL SL k z → oRt u w A H j → gdT kd w H (1 :: 3 :: L) → kS H t w → cFa A s u 0 0 → stO u w A H b lo NL I OL SL k z (u_X33_byKind_70 u A kd pt x (A + 26) j (j + 1)) (G (w, 1)) Q) :
    stO s t A H b lo NL I OL SL k z (u_X33_byKind_70 s A kd pt x (A + 26) m j) ((m_X37_takeMemory t H kd J 0).bind G) Q := by
  subst hJ
  have hg0 : ∀ {R : Option (jS × Int)} (r : jS), (if (r, (0 : Int)).2 = 0 then some ((r, (0 : Int)).1, Wz 0) else R).bind G = some (r, 0) := fun r => by rw [if_pos rfl, Wz_0, Option.bind_some]; exact hg _
  rw [em_X37_takeMemory]; unfold dm_X37_takeMemory
  rw [Option.bind_assoc]
  refine bk_stp h hx j0 j1 hl (num2 h hR hG hz h3 k0 k1 hp (by omega) hcl j0 j1 hs hmk) (fun r => hg0 r) fun u w g r d q c => ?_
  dsimp only
  rw [if_pos h34, if_neg n10, if_pos rfl, bk_198 g k0 k1 j0 j1 hcl1, Option.bind_assoc]
  refine reg2 (p := 1) g r d k0 k1 j0 j1 (by decide) hcl1 (.inr hs2) (fun e => (List.mem_cons.mp e).elim (by decide) h1) (fun _ _ => rfl) (fun r => hg0 r) fun u2 w2 g2 r2 d2 q2 y c2 => ?_
  unfold bkX
  dsimp only
  rw [jth_ff, if_neg n10, Wz_1, Option.bind_some]
  exact hc u2 w2 g2 r2 d2 (q.trans q2) (c.tr0 c2)
theorem bk_all {K : jS × Int → Option (jS × Int)} (h : AG s t A H b lo NL I OL SL k z) (hR : oRt s t A H 0) (hz : jf t 41 H 59 = 0) (k0 : 0 ≤ kd) (k1 : kd < 75) (hp : (cKd kd.toNat).1 = pt) (ho : ∀ {u w}, AG u w A H b lo NL I OL SL k z → cFa A s u 0 0 → pSg u x (ptC pt)) (hn : z.2.2.2.1 = (ptS pt).length) (hk : tkA kd (ptS pt) OL z 0) (hK : ∀ r, K (r, 0) = some (r, 0))
    (hc : ∀ u w m, AG u w A H b lo NL I OL SL k z → oRt u w A H m → (∀ e : Nat, e < 4 → (cFd kd.toNat e).1 = 0 ∨ fMay (cFd kd.toNat e) (jf w 1000 (H + 169) (e : Int))) → kS H t w → stO u w A H b lo NL I OL SL k z (u_X33_byKind_240 u A kd (A + 26) m) (K (w, 1)) Q) :
    stO s t A H b lo NL I OL SL k z (u_X33_byKind_70 s A kd pt x (A + 26) 0 0) ((m_X37_takeOperands t H kd pt).bind K) Q := by
  have e0 : z.2.2.1 + 0 = z.2.2.1 := by omega
  have st0 := h.1.st0
  have cls := pt_cls kd.toNat (by omega)
  obtain ⟨f1, f2, f3⟩ := pt_kd kd.toNat (by omega)
  obtain ⟨-, p0, p16⟩ := pat_is kd.toNat (by omega)
  rw [hp] at f1 f2 f3 p0 p16 cls
  have hG : gdT kd t H [] := fun e he => absurd he List.not_mem_nil
  have h45 := h.2.1.2.1
  have W1 : 0 < z.2.2.2.1 → W32 (z.2.2.1 + 1) = z.2.2.1 + 1 := fun q => by have := (h.1.op (j := 0) (by omega) q); exact W32_in (by omega) (by omega)
  have W2 : 0 < z.2.2.2.1 → W32 (z.2.2.1 + 2) = z.2.2.1 + 2 := fun q => by have := (h.1.op (j := 0) (by omega) q); exact W32_in (by omega) (by omega)
  have hK0 : ∀ {R : Option (jS × Int)} (r : jS), (if (r, (0 : Int)).2 = 0 then some ((r, (0 : Int)).1, Wz 0) else R).bind K = some (r, 0) := fun r => by rw [if_pos rfl, Wz_0, Option.bind_some]; exact hK _
  have hK1 : ∀ (r : jS), (some ((r, (0 : Int)).1, Wz (r, (0 : Int)).2)).bind K = some (r, 0) := fun r => by rw [Wz_0, Option.bind_some]; exact hK _
  have hKW : ∀ w, (some (w, Wz 1)).bind K = K (w, 1) := fun w => by rw [Wz_1, Option.bind_some]
  have fin : ∀ {u w m L}, AG u w A H b lo NL I OL SL k z → oRt u w A H m → gdT kd w H L → kS H t w → (∀ e ∈ ptD pt, e ∈ L) → stO u w A H b lo NL I OL SL k z (u_X33_byKind_240 u A kd (A + 26) m) (K (w, 1)) Q := fun g r d q hL => hc _ _ _ g r (fun e he => (Classical.em ((cFd kd.toNat e).1 = 0)).imp_right fun n => d e (hL e ((cls e he).mp n))) q
  rw [em_X37_takeOperands]; unfold dm_X37_takeOperands
  rw [h45]
  have hpp : pt = 0 ∨ pt = 1 ∨ pt = 2 ∨ pt = 3 ∨ pt = 4 ∨ pt = 5 ∨ pt = 6 ∨ pt = 7 ∨ pt = 8 ∨ pt = 9 ∨ pt = 10 ∨ pt = 11 ∨ pt = 12 ∨ pt = 13 ∨ pt = 14 ∨ pt = 15 ∨ pt = 16 := by omega
  rcases hpp with rfl | rfl | rfl | rfl | rfl | rfl | rfl | rfl | rfl | rfl | rfl | rfl | rfl | rfl | rfl | rfl | rfl
  · have hn : z.2.2.2.1 = 0 := hn
    rw [if_pos rfl]
    rw [hKW, bk_end h (by omega)]
    exact fin h hR hG .rfl (by decide)
  · have hn : z.2.2.2.1 = 3 := hn
    rw [if_neg (by decide), if_pos rfl]
    have hk := (tkA3 hn).mp hk
    obtain ⟨t0, t1, t2⟩ := hk
    have t0 := tk82.mp t0
    have t1 := tk82.mp t1
    have t2 := tk82.mp t2
    have W1 := W1 (by omega)
    have W2 := W2 (by omega)
    have ho : ∀ {u w}, AG u w A H b lo NL I OL SL k z → cFa A s u 0 0 → pSg u x [48, 49, 50] := ho
    rw [Option.bind_assoc]
    rw [← e0] at t0
    refine bk_reg h hR hG (ho h cFa.rfl) k0 k1 (j := 0) (by decide) (by omega) (e := 0) (by decide) (by decide) rfl ((cls 0 (by decide)).mpr (by decide)) (.inl (by have := t0; omega)) e0.symm (fun r => hK0 r) fun u0 w0 g0 r0 d0 q0 y0 c0 => ?_
    dsimp only [Int.reduceAdd]
    rw [if_neg n10]
    rw [W1]
    rw [Option.bind_assoc]
    refine bk_reg g0 r0 d0 (ho g0 c0) k0 k1 (j := 1) (by decide) (by omega) (e := 1) (by decide) (by decide) rfl ((cls 1 (by decide)).mpr (by decide)) (.inl (by have := t1; omega)) rfl (fun r => hK0 r) fun u1 w1 g1 r1 d1 q1 y1 c1 => ?_
    dsimp only [Int.reduceAdd]
    rw [if_neg n10]
    rw [W2]
    rw [Option.bind_assoc]
    refine bk_reg g1 r1 d1 (ho g1 (c0.tr0 c1)) k0 k1 (j := 2) (by decide) (by omega) (e := 2) (by decide) (by decide) rfl ((cls 2 (by decide)).mpr (by decide)) (.inl (by have := t2; omega)) rfl (fun r => hK0 r) fun u2 w2 g2 r2 d2 q2 y2 c2 => ?_
    dsimp only [Int.reduceAdd]
    rw [if_neg n10, hKW, bk_end g2 (by omega)]
    exact fin g2 r2 d2 (q0.trans (q1.trans q2)) (by decide)
  · have hn : z.2.2.2.1 = 3 := hn
    rw [if_neg (by decide), if_neg (by decide), if_pos rfl]
    have hk := (tkA3 hn).mp hk
    obtain ⟨t0, t1, t2⟩ := hk
    have t0 := tk82.mp t0
    have t1 := tk82.mp t1
    have t2 := tk73.mp t2
    have W1 := W1 (by omega)
    have W2 := W2 (by omega)
    have ho : ∀ {u w}, AG u w A H b lo NL I OL SL k z → cFa A s u 0 0 → pSg u x [48, 49, 51] := ho
    rw [Option.bind_assoc]
    rw [← e0] at t0
    refine bk_reg h hR hG (ho h cFa.rfl) k0 k1 (j := 0) (by decide) (by omega) (e := 0) (by decide) (by decide) rfl ((cls 0 (by decide)).mpr (by decide)) (.inl (by have := t0; omega)) e0.symm (fun r => hK0 r) fun u0 w0 g0 r0 d0 q0 y0 c0 => ?_
    dsimp only [Int.reduceAdd]
    rw [if_neg n10]
    rw [W1]
    rw [Option.bind_assoc]
    refine bk_reg g0 r0 d0 (ho g0 c0) k0 k1 (j := 1) (by decide) (by omega) (e := 1) (by decide) (by decide) rfl ((cls 1 (by decide)).mpr (by decide)) (.inl (by have := t1; omega)) rfl (fun r => hK0 r) fun u1 w1 g1 r1 d1 q1 y1 c1 => ?_
    dsimp only [Int.reduceAdd]
    rw [if_neg n10]
    rw [W2]
    rw [Option.bind_assoc]
    refine bk_num g1 r1 d1 (ho g1 (c0.tr0 c1)) (y1.trans (y0.trans hz)) (by decide) k0 k1 hp (by decide) (by decide) ((cls 3 (by decide)).mpr (by decide)) (j := 2) (by decide) (by omega) rfl (.inl (by have := t2; omega)) (by have q1 := t2; have q2 := f1 rfl; unfold mkA at q1; unfold mkTw; omega) rfl (fun r => hK0 r) fun u2 w2 g2 r2 d2 q2 c2 => ?_
    dsimp only [Int.reduceAdd]
    rw [if_neg n10, hKW, bk_end g2 (by omega)]
    exact fin g2 r2 d2 (q0.trans (q1.trans q2)) (by decide)
  · have hn : z.2.2.2.1 = 2 := hn
    rw [if_neg (by decide), if_neg (by decide), if_neg (by decide), if_pos rfl]
    have hk := (tkA2 hn).mp hk
    obtain ⟨t0, t1⟩ := hk
    have t0 := tk82.mp t0
    have t1 := tk77.mp t1
    have W1 := W1 (by omega)
    have ho : ∀ {u w}, AG u w A H b lo NL I OL SL k z → cFa A s u 0 0 → pSg u x [48, 51] := ho
    rw [Option.bind_assoc]
    rw [← e0] at t0
    refine bk_reg h hR hG (ho h cFa.rfl) k0 k1 (j := 0) (by decide) (by omega) (e := 0) (by decide) (by decide) rfl ((cls 0 (by decide)).mpr (by decide)) (.inl (by have := t0; omega)) e0.symm (fun r => hK0 r) fun u0 w0 g0 r0 d0 q0 y0 c0 => ?_
    dsimp only [Int.reduceAdd]
    rw [if_neg n10]
    rw [W1]
    rw [Option.bind_assoc]
    refine bk_mem g0 r0 d0 (ho g0 c0) (y0.trans hz) (by decide) k0 k1 hp (by decide) ((cls 3 (by decide)).mpr (by decide)) ((cls 1 (by decide)).mpr (by decide)) (by decide) (j := 1) (by decide) (by omega) rfl (.inr (by have := t1; omega)) (by have := t1; omega) (by have q1 := t1; have q2 := f2 (by decide); unfold mkA at q1; unfold mkTw; omega) rfl (fun r => hK0 r) fun u1 w1 g1 r1 d1 q1 c1 => ?_
    dsimp only [Int.reduceAdd]
    rw [if_neg n10, hKW, bk_end g1 (by omega)]
    exact fin g1 r1 d1 (q0.trans q1) (by decide)
  · have hn : z.2.2.2.1 = 2 := hn
    rw [if_neg (by decide), if_neg (by decide), if_neg (by decide), if_neg (by decide), if_pos rfl]
    have hk := (tkA2 hn).mp hk
    obtain ⟨t0, t1⟩ := hk
    have t0 := tk82.mp t0
    have t1 := tk77.mp t1
    have W1 := W1 (by omega)
    have ho : ∀ {u w}, AG u w A H b lo NL I OL SL k z → cFa A s u 0 0 → pSg u x [50, 51] := ho
    rw [Option.bind_assoc]
    rw [← e0] at t0
    refine bk_reg h hR hG (ho h cFa.rfl) k0 k1 (j := 0) (by decide) (by omega) (e := 2) (by decide) (by decide) rfl ((cls 2 (by decide)).mpr (by decide)) (.inl (by have := t0; omega)) e0.symm (fun r => hK0 r) fun u0 w0 g0 r0 d0 q0 y0 c0 => ?_
    dsimp only [Int.reduceAdd]
    rw [if_neg n10]
    rw [W1]
    rw [Option.bind_assoc]
    refine bk_mem g0 r0 d0 (ho g0 c0) (y0.trans hz) (by decide) k0 k1 hp (by decide) ((cls 3 (by decide)).mpr (by decide)) ((cls 1 (by decide)).mpr (by decide)) (by decide) (j := 1) (by decide) (by omega) rfl (.inr (by have := t1; omega)) (by have := t1; omega) (by have q1 := t1; have q2 := f2 (by decide); unfold mkA at q1; unfold mkTw; omega) rfl (fun r => hK0 r) fun u1 w1 g1 r1 d1 q1 c1 => ?_
    dsimp only [Int.reduceAdd]
    rw [if_neg n10, hKW, bk_end g1 (by omega)]
    exact fin g1 r1 d1 (q0.trans q1) (by decide)
  · have hn : z.2.2.2.1 = 3 := hn
    rw [if_neg (by decide), if_neg (by decide), if_neg (by decide), if_neg (by decide), if_neg (by decide), if_pos rfl]
    have hk := (tkA3 hn).mp hk
    obtain ⟨t0, t1, t2⟩ := hk
    have t0 := tk82.mp t0
    have t1 := tk82.mp t1
    have t2 := tk69.mp t2
    have W1 := W1 (by omega)
    have W2 := W2 (by omega)
    have ho : ∀ {u w}, AG u w A H b lo NL I OL SL k z → cFa A s u 0 0 → pSg u x [49, 50, 51] := ho
    rw [Option.bind_assoc]
    rw [← e0] at t0
    refine bk_reg h hR hG (ho h cFa.rfl) k0 k1 (j := 0) (by decide) (by omega) (e := 1) (by decide) (by decide) rfl ((cls 1 (by decide)).mpr (by decide)) (.inl (by have := t0; omega)) e0.symm (fun r => hK0 r) fun u0 w0 g0 r0 d0 q0 y0 c0 => ?_
    dsimp only [Int.reduceAdd]
    rw [if_neg n10]
    rw [W1]
    rw [Option.bind_assoc]
    refine bk_reg g0 r0 d0 (ho g0 c0) k0 k1 (j := 1) (by decide) (by omega) (e := 2) (by decide) (by decide) rfl ((cls 2 (by decide)).mpr (by decide)) (.inl (by have := t1; omega)) rfl (fun r => hK0 r) fun u1 w1 g1 r1 d1 q1 y1 c1 => ?_
    dsimp only [Int.reduceAdd]
    rw [if_neg n10]
    rw [W2]
    rw [Option.bind_assoc]
    refine bk_tgt g1 r1 d1 (ho g1 (c0.tr0 c1)) (y1.trans (y0.trans hz)) (by decide) k0 k1 hp (by decide) (j := 2) (by decide) (by omega) rfl (.inl (by have := t2; omega)) rfl (fun r => hK0 r) fun u2 w2 g2 r2 d2 q2 c2 => ?_
    dsimp only [Int.reduceAdd]
    rw [if_neg n10, hKW, bk_end g2 (by omega)]
    exact fin g2 r2 d2 (q0.trans (q1.trans q2)) (by decide)
  · have hn : z.2.2.2.1 = 2 := hn
    rw [if_neg (by decide), if_neg (by decide), if_neg (by decide), if_neg (by decide), if_neg (by decide), if_neg (by decide), if_pos rfl]
    have hk := (tkA2 hn).mp hk
    obtain ⟨t0, t1⟩ := hk
    have t0 := tk82.mp t0
    have t1 := tk88.mp t1
    have W1 := W1 (by omega)
    rw [eu_X37_takeOperands_260]; unfold du_X37_takeOperands_260
    have ho : ∀ {u w}, AG u w A H b lo NL I OL SL k z → cFa A s u 0 0 → pSg u x [48, 51] := ho
    rw [Option.bind_assoc]
    rw [← e0] at t0
    refine bk_reg h hR hG (ho h cFa.rfl) k0 k1 (j := 0) (by decide) (by omega) (e := 0) (by decide) (by decide) rfl ((cls 0 (by decide)).mpr (by decide)) (.inl (by have := t0; omega)) e0.symm (fun r => hK0 r) fun u0 w0 g0 r0 d0 q0 y0 c0 => ?_
    dsimp only [Int.reduceAdd]
    rw [if_neg n10]
    rw [W1]
    rw [Option.bind_assoc]
    refine bk_num g0 r0 d0 (ho g0 c0) (y0.trans hz) (by decide) k0 k1 hp (by decide) (by decide) ((cls 3 (by decide)).mpr (by decide)) (j := 1) (by decide) (by omega) rfl (.inl (by have := t1; omega)) (by have q1 := t1; have q2 := f3 rfl; unfold mkTw; omega) rfl (fun r => hK0 r) fun u1 w1 g1 r1 d1 q1 c1 => ?_
    dsimp only [Int.reduceAdd]
    rw [if_neg n10, hKW, bk_end g1 (by omega)]
    exact fin g1 r1 d1 (q0.trans q1) (by decide)
  · have hn : z.2.2.2.1 = 2 := hn
    rw [if_neg (by decide), if_neg (by decide), if_neg (by decide), if_neg (by decide), if_neg (by decide), if_neg (by decide), if_neg (by decide), if_pos rfl]
    have hk := (tkA2 hn).mp hk
    obtain ⟨t0, t1⟩ := hk
    have t0 := tk82.mp t0
    have t1 := tk69.mp t1
    have W1 := W1 (by omega)
    have ho : ∀ {u w}, AG u w A H b lo NL I OL SL k z → cFa A s u 0 0 → pSg u x [48, 51] := ho
    rw [Option.bind_assoc]
    rw [← e0] at t0
    refine bk_reg h hR hG (ho h cFa.rfl) k0 k1 (j := 0) (by decide) (by omega) (e := 0) (by decide) (by decide) rfl ((cls 0 (by decide)).mpr (by decide)) (.inl (by have := t0; omega)) e0.symm (fun r => hK0 r) fun u0 w0 g0 r0 d0 q0 y0 c0 => ?_
    dsimp only [Int.reduceAdd]
    rw [if_neg n10]
    rw [W1]
    rw [Option.bind_assoc]
    refine bk_tgt g0 r0 d0 (ho g0 c0) (y0.trans hz) (by decide) k0 k1 hp (by decide) (j := 1) (by decide) (by omega) rfl (.inl (by have := t1; omega)) rfl (fun r => hK0 r) fun u1 w1 g1 r1 d1 q1 c1 => ?_
    dsimp only [Int.reduceAdd]
    rw [if_neg n10, hKW, bk_end g1 (by omega)]
    exact fin g1 r1 d1 (q0.trans q1) (by decide)
  · have hn : z.2.2.2.1 = 1 := hn
    rw [if_neg (by decide), if_neg (by decide), if_neg (by decide), if_neg (by decide), if_neg (by decide), if_neg (by decide), if_neg (by decide), if_neg (by decide), if_pos rfl]
    have hk := (tkA1 hn).mp hk
    have t0 := hk
    have t0 := tk69.mp t0
    have W1 := W1 (by omega)
    have ho : ∀ {u w}, AG u w A H b lo NL I OL SL k z → cFa A s u 0 0 → pSg u x [51] := ho
    rw [Option.bind_assoc]
    rw [← e0] at t0
    refine bk_tgt h hR hG (ho h cFa.rfl) hz (by decide) k0 k1 hp (by decide) (j := 0) (by decide) (by omega) rfl (.inl (by have := t0; omega)) e0.symm hK1 fun u0 w0 g0 r0 d0 q0 c0 => ?_
    dsimp only [Int.reduceAdd]
    rw [hKW, bk_end g0 (by omega)]
    exact fin g0 r0 d0 q0 (by decide)
  · have hn : z.2.2.2.1 = 2 := hn
    rw [if_neg (by decide), if_neg (by decide), if_neg (by decide), if_neg (by decide), if_neg (by decide), if_neg (by decide), if_neg (by decide), if_neg (by decide), if_neg (by decide), if_pos rfl]
    have hk := (tkA2 hn).mp hk
    obtain ⟨t0, t1⟩ := hk
    have t0 := tk82.mp t0
    have t1 := tk69.mp t1
    have W1 := W1 (by omega)
    have ho : ∀ {u w}, AG u w A H b lo NL I OL SL k z → cFa A s u 0 0 → pSg u x [49, 51] := ho
    rw [Option.bind_assoc]
    rw [← e0] at t0
    refine bk_reg h hR hG (ho h cFa.rfl) k0 k1 (j := 0) (by decide) (by omega) (e := 1) (by decide) (by decide) rfl ((cls 1 (by decide)).mpr (by decide)) (.inl (by have := t0; omega)) e0.symm (fun r => hK0 r) fun u0 w0 g0 r0 d0 q0 y0 c0 => ?_
    dsimp only [Int.reduceAdd]
    rw [if_neg n10]
    rw [W1]
    rw [Option.bind_assoc]
    refine bk_tgt g0 r0 d0 (ho g0 c0) (y0.trans hz) (by decide) k0 k1 hp (by decide) (j := 1) (by decide) (by omega) rfl (.inl (by have := t1; omega)) rfl (fun r => hK0 r) fun u1 w1 g1 r1 d1 q1 c1 => ?_
    dsimp only [Int.reduceAdd]
    rw [if_neg n10, hKW, bk_end g1 (by omega)]
    exact fin g1 r1 d1 (q0.trans q1) (by decide)
  · have hn : z.2.2.2.1 = 2 := hn
    rw [if_neg (by decide), if_neg (by decide), if_neg (by decide), if_neg (by decide), if_neg (by decide), if_neg (by decide), if_neg (by decide), if_neg (by decide), if_neg (by decide), if_neg (by decide), if_pos rfl]
    have hk := (tkA2 hn).mp hk
    obtain ⟨t0, t1⟩ := hk
    have t0 := tk82.mp t0
    have t1 := tk82.mp t1
    have W1 := W1 (by omega)
    have ho : ∀ {u w}, AG u w A H b lo NL I OL SL k z → cFa A s u 0 0 → pSg u x [48, 50] := ho
    rw [Option.bind_assoc]
    rw [← e0] at t0
    refine bk_reg h hR hG (ho h cFa.rfl) k0 k1 (j := 0) (by decide) (by omega) (e := 0) (by decide) (by decide) rfl ((cls 0 (by decide)).mpr (by decide)) (.inl (by have := t0; omega)) e0.symm (fun r => hK0 r) fun u0 w0 g0 r0 d0 q0 y0 c0 => ?_
    dsimp only [Int.reduceAdd]
    rw [if_neg n10]
    rw [W1]
    rw [Option.bind_assoc]
    refine bk_reg g0 r0 d0 (ho g0 c0) k0 k1 (j := 1) (by decide) (by omega) (e := 2) (by decide) (by decide) rfl ((cls 2 (by decide)).mpr (by decide)) (.inl (by have := t1; omega)) rfl (fun r => hK0 r) fun u1 w1 g1 r1 d1 q1 y1 c1 => ?_
    dsimp only [Int.reduceAdd]
    rw [if_neg n10, hKW, bk_end g1 (by omega)]
    exact fin g1 r1 d1 (q0.trans q1) (by decide)
  · have hn : z.2.2.2.1 = 1 := hn
    rw [if_neg (by decide), if_neg (by decide), if_neg (by decide), if_neg (by decide), if_neg (by decide), if_neg (by decide), if_neg (by decide), if_neg (by decide), if_neg (by decide), if_neg (by decide), if_neg (by decide), if_pos rfl]
    have hk := (tkA1 hn).mp hk
    have t0 := hk
    have t0 := tk82.mp t0
    have W1 := W1 (by omega)
    have ho : ∀ {u w}, AG u w A H b lo NL I OL SL k z → cFa A s u 0 0 → pSg u x [49] := ho
    rw [Option.bind_assoc]
    rw [← e0] at t0
    refine bk_reg h hR hG (ho h cFa.rfl) k0 k1 (j := 0) (by decide) (by omega) (e := 1) (by decide) (by decide) rfl ((cls 1 (by decide)).mpr (by decide)) (.inl (by have := t0; omega)) e0.symm hK1 fun u0 w0 g0 r0 d0 q0 y0 c0 => ?_
    dsimp only [Int.reduceAdd]
    rw [hKW, bk_end g0 (by omega)]
    exact fin g0 r0 d0 q0 (by decide)
  · have hn : z.2.2.2.1 = 2 := hn
    rw [if_neg (by decide), if_neg (by decide), if_neg (by decide), if_neg (by decide), if_neg (by decide), if_neg (by decide), if_neg (by decide), if_neg (by decide), if_neg (by decide), if_neg (by decide), if_neg (by decide), if_neg (by decide), if_pos rfl]
    have hk := (tkA2 hn).mp hk
    obtain ⟨t0, t1⟩ := hk
    have t0 := tk82.mp t0
    have t1 := tk69.mp t1
    have W1 := W1 (by omega)
    rw [eu_X37_takeOperands_260]; unfold du_X37_takeOperands_260
    have ho : ∀ {u w}, AG u w A H b lo NL I OL SL k z → cFa A s u 0 0 → pSg u x [48, 51] := ho
    rw [Option.bind_assoc]
    rw [← e0] at t0
    refine bk_reg h hR hG (ho h cFa.rfl) k0 k1 (j := 0) (by decide) (by omega) (e := 0) (by decide) (by decide) rfl ((cls 0 (by decide)).mpr (by decide)) (.inl (by have := t0; omega)) e0.symm (fun r => hK0 r) fun u0 w0 g0 r0 d0 q0 y0 c0 => ?_
    dsimp only [Int.reduceAdd]
    rw [if_neg n10]
    rw [W1]
    rw [Option.bind_assoc]
    refine bk_num g0 r0 d0 (ho g0 c0) (y0.trans hz) (by decide) k0 k1 hp (by decide) (by decide) ((cls 3 (by decide)).mpr (by decide)) (j := 1) (by decide) (by omega) rfl (.inl (by have := t1; omega)) (.inl (by have := t1; omega)) rfl (fun r => hK0 r) fun u1 w1 g1 r1 d1 q1 c1 => ?_
    dsimp only [Int.reduceAdd]
    rw [if_neg n10, hKW, bk_end g1 (by omega)]
    exact fin g1 r1 d1 (q0.trans q1) (by decide)
  · have hn : z.2.2.2.1 = 2 := hn
    rw [if_neg (by decide), if_neg (by decide), if_neg (by decide), if_neg (by decide), if_neg (by decide), if_neg (by decide), if_neg (by decide), if_neg (by decide), if_neg (by decide), if_neg (by decide), if_neg (by decide), if_neg (by decide), if_neg (by decide), if_pos rfl]
    have hk := (tkA2 hn).mp hk
    obtain ⟨t0, t1⟩ := hk
    have t0 := tk82.mp t0
    have t1 := tk83.mp t1
    have W1 := W1 (by omega)
    have ho : ∀ {u w}, AG u w A H b lo NL I OL SL k z → cFa A s u 0 0 → pSg u x [48, 51] := ho
    rw [Option.bind_assoc]
    rw [← e0] at t0
    refine bk_reg h hR hG (ho h cFa.rfl) k0 k1 (j := 0) (by decide) (by omega) (e := 0) (by decide) (by decide) rfl ((cls 0 (by decide)).mpr (by decide)) (.inl (by have := t0; omega)) e0.symm (fun r => hK0 r) fun u0 w0 g0 r0 d0 q0 y0 c0 => ?_
    dsimp only [Int.reduceAdd]
    rw [if_neg n10]
    rw [W1]
    rw [Option.bind_assoc]
    rw [mem_1, Option.bind_assoc]
    refine bk_num g0 r0 d0 (ho g0 c0) (y0.trans hz) (by decide) k0 k1 hp (by decide) (by decide) ((cls 3 (by decide)).mpr (by decide)) (j := 1) (by decide) (by omega) rfl (.inr (by have := t1; omega)) (.inl (by have := t1; omega)) rfl (fun r => by rw [if_pos rfl, Wz_0, Option.bind_some, if_pos rfl, Option.bind_some]; exact hK _) fun u1 w1 g1 r1 d1 q1 c1 => ?_
    dsimp only
    rw [if_neg n10, Wz_1, Option.bind_some]
    dsimp only [Int.reduceAdd]
    rw [if_neg n10, Option.bind_some, bk_end g1 (by omega)]
    exact fin g1 r1 d1 (q0.trans q1) (by decide)
  · have hn : z.2.2.2.1 = 2 := hn
    rw [if_neg (by decide), if_neg (by decide), if_neg (by decide), if_neg (by decide), if_neg (by decide), if_neg (by decide), if_neg (by decide), if_neg (by decide), if_neg (by decide), if_neg (by decide), if_neg (by decide), if_neg (by decide), if_neg (by decide), if_neg (by decide), if_pos rfl]
    have hk := (tkA2 hn).mp hk
    obtain ⟨t0, t1⟩ := hk
    have t0 := tk82.mp t0
    have t1 := tk83.mp t1
    have W1 := W1 (by omega)
    have ho : ∀ {u w}, AG u w A H b lo NL I OL SL k z → cFa A s u 0 0 → pSg u x [50, 51] := ho
    rw [Option.bind_assoc]
    rw [← e0] at t0
    refine bk_reg h hR hG (ho h cFa.rfl) k0 k1 (j := 0) (by decide) (by omega) (e := 2) (by decide) (by decide) rfl ((cls 2 (by decide)).mpr (by decide)) (.inl (by have := t0; omega)) e0.symm (fun r => hK0 r) fun u0 w0 g0 r0 d0 q0 y0 c0 => ?_
    dsimp only [Int.reduceAdd]
    rw [if_neg n10]
    rw [W1]
    rw [Option.bind_assoc]
    rw [mem_1, Option.bind_assoc]
    refine bk_num g0 r0 d0 (ho g0 c0) (y0.trans hz) (by decide) k0 k1 hp (by decide) (by decide) ((cls 3 (by decide)).mpr (by decide)) (j := 1) (by decide) (by omega) rfl (.inr (by have := t1; omega)) (.inl (by have := t1; omega)) rfl (fun r => by rw [if_pos rfl, Wz_0, Option.bind_some, if_pos rfl, Option.bind_some]; exact hK _) fun u1 w1 g1 r1 d1 q1 c1 => ?_
    dsimp only
    rw [if_neg n10, Wz_1, Option.bind_some]
    dsimp only [Int.reduceAdd]
    rw [if_neg n10, Option.bind_some, bk_end g1 (by omega)]
    exact fin g1 r1 d1 (q0.trans q1) (by decide)
  · have hn : z.2.2.2.1 = 3 := hn
    rw [if_neg (by decide), if_neg (by decide), if_neg (by decide), if_neg (by decide), if_neg (by decide), if_neg (by decide), if_neg (by decide), if_neg (by decide), if_neg (by decide), if_neg (by decide), if_neg (by decide), if_neg (by decide), if_neg (by decide), if_neg (by decide), if_neg (by decide), if_pos rfl]
    have hk := (tkA3 hn).mp hk
    obtain ⟨t0, t1, t2⟩ := hk
    have t0 := tk82.mp t0
    have t1 := tk80.mp t1
    have t2 := tk69.mp t2
    have W1 := W1 (by omega)
    have W2 := W2 (by omega)
    have ho : ∀ {u w}, AG u w A H b lo NL I OL SL k z → cFa A s u 0 0 → pSg u x [48, 52, 51] := ho
    rw [Option.bind_assoc]
    rw [← e0] at t0
    refine bk_reg h hR hG (ho h cFa.rfl) k0 k1 (j := 0) (by decide) (by omega) (e := 0) (by decide) (by decide) rfl ((cls 0 (by decide)).mpr (by decide)) (.inl (by have := t0; omega)) e0.symm (fun r => hK0 r) fun u0 w0 g0 r0 d0 q0 y0 c0 => ?_
    dsimp only [Int.reduceAdd]
    rw [if_neg n10]
    rw [W2]
    rw [bk_4 g0 (ho g0 c0) (j := 1) (by decide) (by omega) rfl]
    dsimp only [Int.reduceAdd]
    rw [Option.bind_assoc]
    refine bk_num g0 r0 d0 (ho g0 c0) (y0.trans hz) (by decide) k0 k1 hp (by decide) (by decide) ((cls 3 (by decide)).mpr (by decide)) (j := 2) (by decide) (by omega) rfl (.inl (by have := t2; omega)) (.inl (by have := t2; omega)) rfl (fun r => hK0 r) fun u2 w2 g2 r2 d2 q2 c2 => ?_
    dsimp only [Int.reduceAdd]
    rw [if_neg n10, hKW, bk_end g2 (by omega)]
    exact fin g2 r2 d2 (q0.trans q2) (by decide)
  · have hn : z.2.2.2.1 = 2 := hn
    rw [if_neg (by decide), if_neg (by decide), if_neg (by decide), if_neg (by decide), if_neg (by decide), if_neg (by decide), if_neg (by decide), if_neg (by decide), if_neg (by decide), if_neg (by decide), if_neg (by decide), if_neg (by decide), if_neg (by decide), if_neg (by decide), if_neg (by decide), if_neg (by decide)]
    have hk := (tkA2 hn).mp hk
    obtain ⟨t0, t1⟩ := hk
    have t0 := tk80.mp t0
    have t1 := tk69.mp t1
    have W1 := W1 (by omega)
    have ho : ∀ {u w}, AG u w A H b lo NL I OL SL k z → cFa A s u 0 0 → pSg u x [52, 51] := ho
    rw [bk_4 h (ho h cFa.rfl) (j := 0) (by decide) (by omega) rfl]
    dsimp only [Int.reduceAdd]
    rw [W1]
    rw [Option.bind_assoc]
    refine bk_num h hR hG (ho h cFa.rfl) hz (by decide) k0 k1 hp (by decide) (by decide) ((cls 3 (by decide)).mpr (by decide)) (j := 1) (by decide) (by omega) rfl (.inl (by have := t1; omega)) (.inl (by have := t1; omega)) rfl hK1 fun u1 w1 g1 r1 d1 q1 c1 => ?_
    dsimp only [Int.reduceAdd]
    rw [hKW, bk_end g1 (by omega)]
    exact fin g1 r1 d1 q1 (by decide)
end jKinds
