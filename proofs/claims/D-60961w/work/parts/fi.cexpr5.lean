/-! the component's expressions: leaves, names that are points, terms that are made -/
section jCexpr5
variable {s t u w v' : jS} {R x b a a' n p p' q r k c f v y e d o z K X Y X' Y' P Q pl lo lo' : Int} {g : Int → Int} {l m : List Int} {NL : List (List Int)} {W : wR4} {st st' : pS} {L L1 L2 : pI} {qq : jS × Bool × Int}
theorem x_sortOf : m_X11_sortOf s v = some (srO' v) := by
  rw [em_X11_sortOf]; unfold dm_X11_sortOf srO'
  by_cases c1 : v = 37
  · rw [if_pos c1, if_pos c1]
  rw [if_neg c1, if_neg c1]
  by_cases c1 : v = 38
  · rw [if_pos c1, if_pos c1]
  rw [if_neg c1, if_neg c1]
  by_cases c1 : v = 42
  · rw [if_pos c1, if_pos c1]
  rw [if_neg c1, if_neg c1]
  by_cases c1 : v = 43
  · rw [if_pos c1, if_pos c1]
  rw [if_neg c1, if_neg c1]
  by_cases c1 : v = 45
  · rw [if_pos c1, if_pos c1]
  rw [if_neg c1, if_neg c1]
  by_cases c1 : v = 47
  · rw [if_pos c1, if_pos c1]
  rw [if_neg c1, if_neg c1]
  by_cases c1 : v = 94
  · rw [if_pos c1, if_pos c1]
  rw [if_neg c1, if_neg c1]
  by_cases c1 : v = 124
  · rw [if_pos c1, if_pos c1]
  rw [if_neg c1, if_neg c1]
  by_cases c1 : v = 256
  · rw [if_pos c1, if_pos c1]
  rw [if_neg c1, if_neg c1]
  by_cases c1 : v = 257
  · rw [if_pos c1, if_pos c1]
  rw [if_neg c1, if_neg c1]
theorem x_bindsOf : m_X11_bindsOf s o = some (bnO o) := by
  rw [em_X11_bindsOf]; unfold dm_X11_bindsOf bnO
  by_cases c1 : o = 21
  · rw [if_pos c1, if_pos c1]
  rw [if_neg c1, if_neg c1]
  by_cases c1 : o = 20
  · rw [if_pos c1, if_pos c1]
  rw [if_neg c1, if_neg c1]
  by_cases c1 : o = 19
  · rw [if_pos c1, if_pos c1]
  rw [if_neg c1, if_neg c1]
  by_cases c1 : 16 < o
  · rw [if_pos c1, if_pos c1]
  rw [if_neg c1, if_neg c1]
  by_cases c1 : o < 14
  · rw [if_pos c1, if_pos c1]
  rw [if_neg c1, if_neg c1]
theorem bnO_lo : 1 ≤ bnO o ∧ bnO o ≤ 6 := by
  unfold bnO
  split; omega
  split; omega
  split; omega
  split; omega
  split <;> omega
theorem x48 (h : 0 ≤ a) : m_X48_init s a o y = some (jp (jp s 65 a 0 o) 65 a 1 y, 0) := by
  rw [em_X48_init]; unfold dm_X48_init
  rw [em_X47_init]; unfold dm_X47_init
  rw [jck0_in h, jck0_in h]; rfl
theorem x49 (h : 0 ≤ a) : m_X49_init s a o y = some (jp (jp s 66 a 0 o) 66 a 1 y, 0) := by
  rw [em_X49_init]; unfold dm_X49_init
  rw [em_X47_init]; unfold dm_X47_init
  rw [jck0_in h, jck0_in h]; rfl
theorem x50 (h : 0 ≤ a) : m_X50_init s a o y z = some (jp (jp (jp s 67 a 0 o) 67 a 1 y) 67 a 2 z, 0) := by
  rw [em_X50_init]; unfold dm_X50_init
  rw [em_X47_init]; unfold dm_X47_init
  rw [jck0_in h, jck0_in h]; rfl
/-- kinds that are no name's -/
theorem nnm : ∀ {k : Int}, k = 6 ∨ k = 2 ∨ k = 3 ∨ k = 4 ∨ k = 5 ∨ k = 0 → ((k = 7 → l = [46]) ∧ (k = 1 → ¬ l = [46])) := fun h => ⟨fun z => by omega, fun z => by omega⟩
theorem wdG_nm : (wdG g n r f e).1 = 6 ∨ (wdG g n r f e).1 = 2 := by
  unfold wdG; split
  · exact .inl rfl
  · exact .inr rfl
theorem nmO_1 {r q : Int} (h : q = r + 1) : nmO g r q = [g r] := by
  subst h
  have h1 := nmO_s (g := g) (f := r) (k := r) (Int.le_refl r)
  rw [h1, nmO_0]; rfl
theorem wd1_nm (hb : byG g n) (r0 : 0 ≤ r) (r1 : r ≤ n) : ((wd1 g n r).1 = 7 → nmO g (wd1 g n r).2.2.1 (wd1 g n r).2.2.2 = [46]) ∧ ((wd1 g n r).1 = 1 → ¬ nmO g (wd1 g n r).2.2.1 (wd1 g n r).2.2.2 = [46]) := by
  unfold wd1
  by_cases c0 : bt g n r = 10 ∨ bt g n r = -1
  · rw [if_pos c0]; exact nnm (by show (0 : Int) = 6 ∨ (0 : Int) = 2 ∨ (0 : Int) = 3 ∨ (0 : Int) = 4 ∨ (0 : Int) = 5 ∨ (0 : Int) = 0; decide)
  rw [if_neg c0]
  have rn : r < n := bt_ne hb r0 (fun z => c0 (.inr z))
  by_cases c1 : isBg (bt g n r)
  · rw [cif_pos c1]
    obtain ⟨⟨s1, s2, s3⟩, s4⟩ := up_to (g := g) (n := n) (P := isIn) (p := r) (by unfold isIn isBg isDg; omega) r1
    unfold wdI
    generalize up g n isIn r = q1 at *
    split
    · exact nnm (by show (6 : Int) = 6 ∨ (6 : Int) = 2 ∨ (6 : Int) = 3 ∨ (6 : Int) = 4 ∨ (6 : Int) = 5 ∨ (6 : Int) = 0; decide)
    · split
      · rename_i z
        refine ⟨fun _ => ?_, fun z => absurd z (show ¬ (7 : Int) = 1 by decide)⟩
        show nmO g r q1 = [46]
        rw [nmO_1 (by omega), ← bt_in (g := g) (n := n) rn, z.2]
      · rename_i z
        refine ⟨fun z => absurd z (show ¬ (1 : Int) = 7 by decide), fun _ h => z ?_⟩
        have h' : nmO g r q1 = [46] := h
        have hl := nmO_len (g := g) s1
        rw [h'] at hl
        have e1 : q1 = r + 1 := by have hl' : (1 : Int) = q1 - r := hl; omega
        rw [nmO_1 e1] at h'
        have h2 : g r = 46 := (List.cons.inj h').1
        exact ⟨by omega, by rw [bt_in rn]; exact h2⟩
  rw [cif_neg c1]
  by_cases c2 : isDg (bt g n r)
  · rw [cif_pos c2]
    refine nnm ?_
    unfold wdN
    split
    · have := wdG_nm (g := g) (n := n) (r := r) (f := r + 2) (e := 16); omega
    split
    · have := wdG_nm (g := g) (n := n) (r := r) (f := r + 2) (e := 2); omega
    by_cases c3 : (bt g n (r + 1) = 98 ∨ bt g n (r + 1) = 102) ∧ ¬ isIn (bt g n (r + 2))
    · rw [cif_pos c3]; show (3 : Int) = 6 ∨ (3 : Int) = 2 ∨ (3 : Int) = 3 ∨ (3 : Int) = 4 ∨ (3 : Int) = 5 ∨ (3 : Int) = 0; decide
    · rw [cif_neg c3]; have := wdG_nm (g := g) (n := n) (r := r) (f := r) (e := 10); omega
  rw [cif_neg c2]
  have h6 : (6 : Int) = 6 ∨ (6 : Int) = 2 ∨ (6 : Int) = 3 ∨ (6 : Int) = 4 ∨ (6 : Int) = 5 ∨ (6 : Int) = 0 := by decide
  split
  · refine nnm ?_
    unfold wdC
    by_cases c3 : inOK g n (r + 1) 39 ∧ bt g n (inT g n (r + 1)) = 39
    · rw [cif_pos c3]; show (2 : Int) = 6 ∨ (2 : Int) = 2 ∨ (2 : Int) = 3 ∨ (2 : Int) = 4 ∨ (2 : Int) = 5 ∨ (2 : Int) = 0; decide
    · rw [cif_neg c3]; exact h6
  split
  · refine nnm ?_
    unfold wdS
    split
    · show (4 : Int) = 6 ∨ (4 : Int) = 2 ∨ (4 : Int) = 3 ∨ (4 : Int) = 4 ∨ (4 : Int) = 5 ∨ (4 : Int) = 0; decide
    · exact h6
  · refine nnm ?_
    unfold wdY
    split
    · show (5 : Int) = 6 ∨ (5 : Int) = 2 ∨ (5 : Int) = 3 ∨ (5 : Int) = 4 ∨ (5 : Int) = 5 ∨ (5 : Int) = 0; decide
    · by_cases c3 : sgOK (bt g n r)
      · rw [cif_pos c3]; show (5 : Int) = 6 ∨ (5 : Int) = 2 ∨ (5 : Int) = 3 ∨ (5 : Int) = 4 ∨ (5 : Int) = 5 ∨ (5 : Int) = 0; decide
      · rw [cif_neg c3]; exact h6
theorem wd_nm (hb : byG g n) (p0 : 0 ≤ p) (p1 : p ≤ n) : ((wd g n p).1 = 7 → nmO g (wd g n p).2.2.1 (wd g n p).2.2.2 = [46]) ∧ ((wd g n p).1 = 1 → ¬ nmO g (wd g n p).2.2.1 (wd g n p).2.2.2 = [46]) := by
  obtain ⟨⟨s1, s2, s3⟩, s4⟩ := up_to (g := g) (n := n) (P := spP) (by unfold spP; omega) p1
  unfold wd
  generalize up g n spP p = q0 at *
  by_cases c : bt g n q0 = 35
  · rw [if_pos c]
    obtain ⟨⟨d1, d2, d3⟩, d4⟩ := up_to (g := g) (n := n) (P := cmP) (p := q0) (by unfold cmP; omega) s4
    generalize up g n cmP q0 = q1 at *
    by_cases c2 : bt g n q1 = 10 ∨ bt g n q1 = -1
    · rw [if_pos c2]; exact wd1_nm hb (by omega) d4
    · rw [if_neg c2]; exact nnm (.inl rfl)
  · rw [if_neg c]; exact wd1_nm hb (by omega) s4
theorem x_isHere (h : cR u R x b a g n st) (lk : lkS u R x g n (wd g n st.1)) (hk : (wd g n st.1).1 = 1 ∨ (wd g n st.1).1 = 7) : m_X44_isHere u R = some (if (wd g n st.1).1 = 7 then 1 else 0) := by
  have hn := wd_nm h.1.2.2.2.2.2.2.2.1.1 h.2.2.1.1 h.2.2.1.2
  have hw := wd_in h.1.2.2.2.2.2.2.2.1.1 h.2.2.1.1 h.2.2.1.2
  have hs := (lk.1.2.2.1 hk).1
  have hl := nmO_len (g := g) (hw.2.2.2.1 lk.2.2.2.2).1
  have h16 := hw.2.2.2.2.1 hk
  have hC : pCon u := h.1.2.2.2.2.2.2.2.2.2.2
  rw [em_X44_isHere]; unfold dm_X44_isHere
  have k5 : jf u 53 R 5 = 1 := by rw [lk.1.1]; unfold kdO; split <;> omega
  rw [if_pos k5, s_equals hs.1 (show pSg u (jc u 194) (cS 194) from (hC.1 194 (by decide)).1) (by omega), Option.bind_some]
  have ec : cS 194 = [46] := by decide
  rw [ec]
  by_cases c7 : (wd g n st.1).1 = 7
  · rw [if_pos c7, if_pos (hn.1 c7), if_neg (by decide), Wz_1]
  · rw [if_neg c7, if_neg (hn.2 (by omega)), if_pos rfl, Wz_0]
/-- a term is made -/
theorem tm_new {nf : Int} {F : Int → Int} (C : cR u R x b a g n st) (hK : K = 65 ∨ K = 66 ∨ K = 67) (hB : 0 ≤ jn u ∧ jBd u 1 nf) : jnw u K nf F = some (jmk u K 0 F nf, jn u) ∧ cR (jmk u K 0 F nf) R x b a g n st ∧ jf (jmk u K 0 F nf) 53 R 4 = jf u 53 R 4 ∧ jGw u (jmk u K 0 F nf) 1 nf (fun _ => False) ∧ jK (jmk u K 0 F nf) (jn u) = K ∧ jn (jmk u K 0 F nf) = jn u + 1 := by
  have k : jGw u (jmk u K 0 F nf) (0 + 1) (0 + nf) (fun _ => False) := jGw.rfl.mk
  have k' : jGw u (jmk u K 0 F nf) (0 + 1) (0 + nf) (tmA u) := jGw.rfl.mk
  refine ⟨?_, (C.tm k').1, (C.tm k').2, k.mono (by omega) (by omega) fun _ _ z => z, ?_, rfl⟩
  · unfold jnw; rw [if_pos ⟨hB.1, hB.2.1, hB.2.2⟩]
  · show (if jn u = jn u then K else _) = K
    rw [if_pos rfl]
/-- a leaf is made -/
theorem x_leaf (C : cR u R x b a g n st) (hB : 0 ≤ jn u ∧ jBd u 1 2) : ∃ w, ((jnw u 66 2 (jdf 66)).bind fun q2 => (jck0 q2.2 (m_X49_init q2.1 q2.2 o y)).bind fun q3 => some (q3.1, false, q2.2)) = some (w, false, jn u) ∧ cR w R x b a g n st ∧ jf w 53 R 4 = jf u 53 R 4 ∧ jGw u w 1 2 (fun _ => False) ∧ layT (jn u) w 1 (jn u) [(o, y)] := by
  obtain ⟨h1, h2, h3, h4, h5, h6⟩ := tm_new (K := 66) (F := jdf 66) C (.inr (.inl rfl)) hB
  rw [h1, Option.bind_some]
  show ∃ w, (jck0 (jn u) (m_X49_init (jmk u 66 0 (jdf 66) 2) (jn u) o y)).bind _ = _ ∧ _
  rw [jck0_in hB.1, x49 hB.1, Option.bind_some]
  generalize jmk u 66 0 (jdf 66) 2 = w1 at *
  have k : jGw w1 (jp (jp w1 66 (jn u) 0 o) 66 (jn u) 1 y) 0 0 (fun z => z = jn u) := ((jGw.rfl (A := fun z => z = jn u)).jp (.inl rfl)).jp (.inl rfl)
  have kt := h2.tm (k.mono (Int.le_refl _) (Int.le_refl _) fun z _ hz => by unfold tmA; rw [hz, h5]; omega)
  refine ⟨_, rfl, kt.1, kt.2.trans h3, (h4.trans k (C := fun z => jn u ≤ z) fun z _ hz => ?_).mono (by omega) (by omega) fun z hz h => by omega, ⟨⟨Int.le_refl _, ?_⟩, .inl ⟨?_, ?_⟩⟩⟩
  · rcases hz with hz | hz
    · exact hz.elim
    · omega
  · show jn u < jn w1; omega
  · show jK w1 (jn u) = 66; exact h5
  · rw [show jf (jp (jp w1 66 (jn u) 0 o) 66 (jn u) 1 y) 66 (jn u) 0 = o by (repeat (first | rw [jf_neg (by omega)] | rw [jf_pos (by omega)] | rw [ou_neg (by omega)] | rw [ou_pos (by omega)])), show jf (jp (jp w1 66 (jn u) 0 o) 66 (jn u) 1 y) 66 (jn u) 1 = y by (repeat (first | rw [jf_neg (by omega)] | rw [jf_pos (by omega)] | rw [ou_neg (by omega)] | rw [ou_pos (by omega)]))]
end jCexpr5
