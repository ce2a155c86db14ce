/-! the component's book: what stays, terms are laid down -/
section jClay
variable {s t u w v' : jS} {R x b a a' n p p' q r k c f v y e d o z K X Y X' Y' P Q pl lo lo' : Int} {g : Int → Int} {l m : List Int} {NL : List (List Int)} {W : wR4} {st st' : pS} {I L L1 L2 : pI} {A : Int → Prop}
def bkA (u : jS) (b : Int) : Int → Prop := fun z => z = b ∨ z = b + 1 ∨ z = b + 2 ∨ z = b + 3 ∨ z = b + 4 ∨ jK u z = 62 ∨ jK u z = 63 ∨ jK u z = 65 ∨ jK u z = 66 ∨ jK u z = 67
/-- what touches the book alone, and its statements, operands, terms -/
def bkF (u w : jS) (b X Y : Int) : Prop := jGw u w X Y (bkA u b) ∧ ∀ k, ¬ (5 ≤ k ∧ k ≤ 7) → jf w 16 b k = jf u 16 b k
theorem bkA_k (B : bkI u b) (h : bkA u b z) : ¬ jK u z = 53 ∧ ¬ jK u z = 8 ∧ ¬ jK u z = 1001 ∧ ¬ jK u z = 9 ∧ ¬ jK u z = 1026 ∧ jK u z < 3000 := by
  obtain ⟨⟨h1, h2, h3⟩, -, ⟨a1, a2⟩, ⟨b1, b2⟩, ⟨c1, c2⟩, ⟨d1, d2⟩, e1, e2⟩ := B
  rcases h with h | h | h | h | h | h | h | h | h | h
  · rw [h]; omega
  · rw [h]; omega
  · rw [h]; omega
  · rw [h]; omega
  · rw [h]; omega
  · omega
  · omega
  · omega
  · omega
  · omega
theorem rdI.bk (h : rdI u R x b a g n) (B : bkI u b) (k : bkF u w b X Y) : rdI w R x b a g n := by
  have hx := h.row
  obtain ⟨⟨h1, h2, h3⟩, h4, h5, h6, h7, ⟨h8, h9, h10, h11⟩, h12, h13, ⟨l, hl⟩, h15, h16⟩ := h
  have k := k.1
  have nR : ¬ bkA u b R := fun z => by have := bkA_k B z; omega
  have na : ¬ bkA u b a := fun z => by have := bkA_k B z; omega
  obtain ⟨p1, p2⟩ := hl.keep k (fun z => by have := hl.1.2.2; have := bkA_k B z; omega) (fun z => by have := hl.2.2.2.1.2.2; have := bkA_k B z; omega)
  have := k.1.1
  exact ⟨⟨h1, by omega, by rw [k.K h2]; exact h3⟩, by rw [k.2.2 _ _ _ h2 nR]; exact h4, by rw [k.2.2 _ _ _ h2 nR]; exact h5, by rw [k.2.2 _ _ _ h2 nR]; exact h6, by rw [k.2.2 _ _ _ h2 nR]; exact h7, ⟨h8, by omega, by rw [k.K h9]; exact h10, by rw [k.N h9]; exact h11⟩, fun j j0 j1 => by rw [k.2.2 _ _ _ h9 na]; exact h12 j j0 j1, h13, ⟨l, p1⟩, by rw [p2]; exact h15, h16.keep k fun a z => (bkA_k B z).2.2.2.2.2⟩
theorem rStr.bk (h : rStr u y l x) (B : bkI u b) (k : bkF u w b X Y) (hx : x < jn u) (hx' : jK u x = 8) : rStr w y l x := by
  obtain ⟨h1, h2, ⟨h3, h4⟩, h5⟩ := h
  have k := k.1
  have ny : ¬ bkA u b y := fun z => by have := bkA_k B z; omega
  have nb : ¬ bkA u b (jF u y 0) := fun z => by have := bkA_k B z; have q := h1.2.2.1.2.2; omega
  have hp := h1.keep k ny nb
  have hF : ∀ j, jF w y j = jF u y j := fun j => k.F h1.1.2.1 ny j
  exact ⟨hp.1, by rw [k.K h1.1.2.1]; exact h2, ⟨by rw [hF]; exact h3, by rw [hF]; exact h4⟩, by rw [hF, k.2.2 8 x 0 hx (fun z => by have := bkA_k B z; omega)]; exact h5⟩
theorem bkI.bk (h : bkI u b) (k : bkF u w b X Y) : bkI w b := by
  have h' := h
  obtain ⟨⟨h1, h2, h3⟩, ⟨f0, f1, f2, f3, f4⟩, ⟨a1, a2⟩, ⟨b1, b2⟩, ⟨c1, c2⟩, ⟨d1, d2⟩, e1, e2⟩ := h
  obtain ⟨k, F⟩ := k
  have := k.1.1
  exact ⟨⟨h1, by omega, by rw [k.K (by omega)]; exact h3⟩, ⟨by rw [F _ (by omega)]; exact f0, by rw [F _ (by omega)]; exact f1, by rw [F _ (by omega)]; exact f2, by rw [F _ (by omega)]; exact f3, by rw [F _ (by omega)]; exact f4⟩, ⟨by rw [k.K (by omega)]; exact a1, by rw [k.N (by omega)]; exact a2⟩, ⟨by rw [k.K (by omega)]; exact b1, by rw [k.N (by omega)]; exact b2⟩, ⟨by rw [k.K (by omega)]; exact c1, by rw [k.N (by omega)]; exact c2⟩, ⟨by rw [k.K (by omega)]; exact d1, by rw [k.N (by omega)]; exact d2⟩, by rw [k.K (by omega)]; exact e1, by rw [k.N (by omega)]; exact e2⟩
theorem nmC.bk (h : nmC u b x NL) (B : bkI u b) (k : bkF u w b X Y) (hx : x < jn u) (hx' : jK u x = 8) : nmC w b x NL := by
  have hb := B.1
  have h5 := B.2.2.2.2.2.2.1
  exact ⟨by rw [k.2 8 (by omega)]; exact h.1, h.2.1, fun i hi => by
    rw [k.1.2.2 1026 (b + 5) i (by omega) (fun z => by have := bkA_k B z; omega)]
    exact ⟨(h.2.2 i hi).1.bk B k hx hx', (h.2.2 i hi).2⟩⟩
theorem lkS.bk (h : lkS u R x g n W) (I : rdI u R x b a g n) (B : bkI u b) (k : bkF u w b X Y) : lkS w R x g n W := by
  obtain ⟨⟨h1, h2, h3, h4, h5⟩, h6, h7, h8, h9⟩ := h
  have hr := I.1
  have hx := I.row
  have F : ∀ j, jf w 53 R j = jf u 53 R j := fun j => k.1.2.2 53 R j hr.2.1 (fun z => by have := bkA_k B z; omega)
  exact ⟨⟨by rw [F]; exact h1, by rw [F]; exact h2, fun z => ⟨by rw [F]; exact (h3 z).1.bk B k (by omega) (by omega), by rw [F]; exact (h3 z).2⟩, fun z => by rw [F]; exact (h4 z).bk B k (by omega) (by omega), fun z => by rw [F]; exact h5 z⟩, by rw [F]; exact h6, by rw [F]; exact h7, by rw [F]; exact h8, h9⟩
theorem cR.bk (h : cR u R x b a g n st) (k : bkF u w b X Y) : cR w R x b a g n st ∧ ∀ j, jf w 53 R j = jf u 53 R j := by
  obtain ⟨I, B, p0, tk, N, c14, c15, cb⟩ := h
  have hr := I.1
  have hx := I.row
  have F : ∀ j, jf w 53 R j = jf u 53 R j := fun j => k.1.2.2 53 R j hr.2.1 (fun z => by have := bkA_k B z; omega)
  exact ⟨⟨I.bk B k, B.bk k, p0, by
    rcases tk with ⟨t1, t2⟩ | t
    · exact .inl ⟨by rw [F]; exact t1, by rw [F]; exact t2⟩
    · exact .inr (t.bk I B k), N.bk B k (by omega) (by omega), by rw [F]; exact c14, by rw [F]; exact c15, cb⟩, F⟩
/-- items of the book -/
def itC (u : jS) (b : Int) (I : pI) : Prop := jf u 16 b 7 = I.length ∧ ∀ i : Nat, i < I.length → jf u 1000 (b + 3) i = (I.getD i (0, 0)).1 ∧ jf u 1000 (b + 4) i = (I.getD i (0, 0)).2
/-- items alone are written -/
def itF (u w : jS) (b : Int) : Prop := jSm u w ∧ ∀ c a k, ¬ (c = 1000 ∧ (a = b + 3 ∨ a = b + 4)) → ¬ (c = 16 ∧ a = b ∧ k = 7) → jf w c a k = jf u c a k
theorem itF.rfl : itF u u b := ⟨jSm.rfl, fun _ _ _ _ _ => Eq.refl _⟩
theorem itF.trans (h : itF u w b) (k : itF w v' b) : itF u v' b := ⟨jSm.trans h.1 k.1, fun c a j z z1 => (k.2 c a j z z1).trans (h.2 c a j z z1)⟩
theorem itF.gw (h : itF u w b) : jGw u w 0 0 (fun z => z = b ∨ z = b + 3 ∨ z = b + 4) := by
  obtain ⟨⟨h1, h2, h3, h4, h5, h6, h7⟩, h8⟩ := h
  exact ⟨⟨by omega, by omega, by omega, h5, h6, h7⟩, fun a _ => ⟨by rw [h1], by rw [h2]⟩, fun c a k _ z => h8 c a k (fun q => z (.inr q.2)) fun q => z (.inl q.2.1)⟩
theorem itF.bk (h : itF u w b) : bkF u w b 0 0 := ⟨h.gw.mono (Int.le_refl _) (Int.le_refl _) fun z _ q => by unfold bkA; omega, fun k hk => h.2 _ _ _ (by omega) (by omega)⟩
theorem x_item (h : itC u b I) (hl : I.length < 2000) : ∃ w, m_X12_item u b o v = some (w, 0) ∧ itC w b (I ++ [(o, v)]) ∧ itF u w b := by
  rw [em_X12_item]; unfold dm_X12_item
  simp only [jls]
  rw [h.1, jst_in (by omega) (by omega), Option.bind_some, jf_neg (by omega), h.1, jst_in (by omega) (by omega), Option.bind_some, jf_neg (by omega), jf_neg (by omega), h.1, W32_in (by omega) (by omega)]
  refine ⟨_, rfl, ⟨?_, fun i hi => ?_⟩, ((jSm.rfl.jp).jp).jp, fun c a k z z1 => by rw [jf_neg (by omega), jf_neg (by omega), jf_neg (by omega)]⟩
  · rw [jf_pos ⟨rfl, rfl, rfl⟩]; simp
  · have hi' : i < I.length + 1 := by simpa using hi
    by_cases c : i = I.length
    · subst c
      rw [show (I ++ [(o, v)]).getD I.length (0, 0) = (o, v) by simp]
      exact ⟨by rw [jf_neg (by omega), jf_neg (by omega), jf_pos ⟨rfl, rfl, rfl⟩], by rw [jf_neg (by omega), jf_pos ⟨rfl, rfl, rfl⟩]⟩
    · rw [show (I ++ [(o, v)]).getD i (0, 0) = I.getD i (0, 0) by rw [List.getD_eq_getElem?_getD, List.getD_eq_getElem?_getD, List.getElem?_append_left (by omega)]]
      rw [jf_neg (by omega), jf_neg (by omega), jf_neg (by omega), jf_neg (by omega), jf_neg (by omega), jf_neg (by omega)]
      exact h.2 i (by omega)
/-- a term is laid down -/
theorem x_lay (h5 : b + 5 < lo) (hb0 : 0 ≤ b) : ∀ (k d : Nat) (u : jS) (y : Int) (I L : pI), layT lo u d y L → d ≤ k + 1 → bkI u b → itC u b I → (I.length + L.length ≤ 2000) → ∃ w, mp_X47_lay (gr_lay k) u y b = some (w, 0) ∧ itC w b (I ++ L) ∧ itF u w b
  | _, 0, _, _, _, _, h, _, _, _, _ => h.elim
  | k, d + 1, u, y, I, L, ⟨⟨h0, h1⟩, h⟩, hd, B, hI, hl => by
    rw [emp_X47_lay]; unfold dmp_X47_lay
    have it : ∀ {u : jS} {I : pI} {o v : Int}, bkI u b → itC u b I → I.length < 2000 → ∃ w, jct u 32 b (m_X12_item u b o v) = some (w, 0) ∧ itC w b (I ++ [(o, v)]) ∧ itF u w b := fun B h hl => by
      rw [jct_in B.tt]; exact x_item h hl
    rcases h with ⟨k66, e⟩ | ⟨k65, L1, hL1, e⟩ | ⟨k67, L1, L2, hL1, hL2, e⟩
    · subst e
      have hl' : I.length + 1 ≤ 2000 := hl
      obtain ⟨w, e1, e2, e3⟩ := it (o := jf u 66 y 0) (v := jf u 66 y 1) B hI (by omega)
      rw [if_pos ⟨by omega, k66⟩, jct_in (show jTt u 82 y from (jTt_pl rfl rfl).mpr ⟨by omega, h1, k66, fun q => absurd q (by decide)⟩), em_X49_lay]; unfold dm_X49_lay
      exact ⟨w, by rw [e1, Option.bind_some], e2, e3⟩
    · subst e
      obtain ⟨k', hk'⟩ : ∃ k', k = k' + 1 := ⟨k - 1, by
        cases d with
        | zero => exact hL1.elim
        | succ d => omega⟩
      subst hk'
      rw [show (L1 ++ [(jf u 65 y 0, (0 : Int))]).length = L1.length + 1 by simp] at hl
      obtain ⟨w1, e1, I1, F1⟩ := x_lay h5 hb0 k' d u (jf u 65 y 1) I L1 hL1 (by omega) B hI (by omega)
      have B1 := B.bk F1.bk
      obtain ⟨w2, e2, I2, F2⟩ := it (o := jf w1 65 y 0) (v := 0) B1 I1 (by rw [List.length_append]; omega)
      rw [if_neg (by omega), if_pos ⟨by omega, k65⟩, jct_in (show jTt u 81 y from (jTt_pl rfl rfl).mpr ⟨by omega, h1, k65, fun q => absurd q (by decide)⟩)]
      show ∃ w, mR_X48_lay (gr_lay k') u y b = some (w, 0) ∧ _
      rw [emR_X48_lay]; unfold dmR_X48_lay
      rw [e1, Option.bind_some]
      show ∃ w, (jct w1 32 b (m_X12_item w1 b (jf w1 65 y 0) 0)).bind _ = some (w, 0) ∧ _
      refine ⟨w2, by rw [e2, Option.bind_some], ?_, F1.trans F2⟩
      rw [F1.2 65 y 0 (by omega) (by omega), List.append_assoc] at I2
      exact I2
    · subst e
      obtain ⟨k', hk'⟩ : ∃ k', k = k' + 1 := ⟨k - 1, by
        cases d with
        | zero => exact hL1.elim
        | succ d => omega⟩
      subst hk'
      have hll : (L1 ++ L2 ++ [(jf u 67 y 0, (0 : Int))]).length = L1.length + L2.length + 1 := by simp [Nat.add_assoc]
      rw [hll] at hl
      obtain ⟨w1, e1, I1, F1⟩ := x_lay h5 hb0 k' d u (jf u 67 y 1) I L1 hL1 (by omega) B hI (by omega)
      have B1 := B.bk F1.bk
      have hL2' : layT lo w1 d (jf w1 67 y 2) L2 := by
        rw [F1.2 67 y 2 (by omega) (by omega)]
        exact layT.lt F1.gw (fun z q => by omega) hL2
      obtain ⟨w2, e2, I2, F2⟩ := x_lay h5 hb0 k' d w1 (jf w1 67 y 2) (I ++ L1) L2 hL2' (by omega) B1 I1 (by rw [List.length_append]; omega)
      have B2 := B1.bk F2.bk
      obtain ⟨w3, e3, I3, F3⟩ := it (o := jf w2 67 y 0) (v := 0) B2 I2 (by rw [List.length_append, List.length_append]; omega)
      rw [if_neg (by omega), if_neg (by omega), if_pos ⟨by omega, k67⟩, jct_in (show jTt u 83 y from (jTt_pl rfl rfl).mpr ⟨by omega, h1, k67, fun q => absurd q (by decide)⟩)]
      show ∃ w, mR_X50_lay (gr_lay k') u y b = some (w, 0) ∧ _
      rw [emR_X50_lay]; unfold dmR_X50_lay
      rw [e1, Option.bind_some]
      show ∃ w, (mp_X47_lay (gr_lay k') w1 (jf w1 67 y 2) b).bind _ = some (w, 0) ∧ _
      rw [e2, Option.bind_some]
      show ∃ w, (jct w2 32 b (m_X12_item w2 b (jf w2 67 y 0) 0)).bind _ = some (w, 0) ∧ _
      refine ⟨w3, by rw [e3, Option.bind_some], ?_, (F1.trans F2).trans F3⟩
      rw [F2.2 67 y 0 (by omega) (by omega), F1.2 67 y 0 (by omega) (by omega)] at I3
      rw [show I ++ (L1 ++ L2 ++ [(jf u 67 y 0, (0 : Int))]) = I ++ L1 ++ L2 ++ [(jf u 67 y 0, 0)] by simp]
      exact I3
theorem lay_2 : mp_X47_lay_2 = mp_X47_lay (gr_lay 70) := by
  rw [emp_X47_lay_2, emp_X47_lay]
  funext u y b
  unfold dmp_X47_lay_2 dmp_X47_lay
  rw [em_X48_lay, em_X50_lay]
theorem x_lay2 {d : Nat} (h : layT lo u d y L) (hd : d ≤ 71) (h5 : b + 5 < lo) (B : bkI u b) (hI : itC u b I) (hl : I.length + L.length ≤ 2000) : ∃ w, mp_X47_lay_2 u y b = some (w, 0) ∧ itC w b (I ++ L) ∧ itF u w b := by
  rw [lay_2]; exact x_lay h5 B.1.1 70 d u y I L h hd B hI hl
end jClay
