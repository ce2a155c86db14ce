/-! the twin reads a file: names -/
section jTread2
variable {s t u : jS} {X n p f a b x y e k : Int} {g g' : Int → Int} {o : Int → Int → Int → Int} {L : List (Prop × Int × Int)} {c : Prop}
theorem t_isTitle (C : tCf u X g n) {k : Nat} (hk : k < 11) (p0 : 0 ≤ p) (hz : ∃ m, p ≤ m ∧ m < n ∧ g m = 0) : ∃ z, m_X40_isTitle u X k p = some z ∧ (tE g p k ∧ z = 1 ∨ ¬ tE g p k ∧ z = 0) := by
  have hn := C.n8
  obtain ⟨m, m0, m1, m2⟩ := hz
  obtain ⟨b0, b1, b2, b3⟩ := C.2.2.2.2.2 k hk
  have hl := tl_len k
  have nz := tl_nz k hk
  generalize hb : jf u 1000 (X + 23) (k : Int) = b at *
  have T : ∀ i : Int, 0 ≤ i → i < (tl k).length → jlt u 1000 (X + 22) 128 (W32 (b + i)) = some ((tl k).getD i.toNat 0) := fun i i0 i1 => by
    rw [W32_in (by omega) (by omega), jlt_in (by omega) (by omega), ← b2 i.toNat (by omega), nt i0]
  have T0 : jlt u 1000 (X + 22) 128 (W32 (b + ((tl k).length : Nat))) = some 0 := by
    rw [W32_in (by omega) (by omega), jlt_in (by omega) (by omega), b3]
  have G : ∀ i : Int, 0 ≤ i → p + i ≤ m → jlt u 1000 (X + 21) 8192 (W32 (p + i)) = some (g (p + i)) := fun i i0 i1 => by
    rw [W32_in (by omega) (by omega), t_u1 C (by omega) (by omega)]
  have Bk : jlt u 1000 (X + 23) 11 (k : Int) = some b := by rw [jlt_in (by omega) (by omega), hb]
  -- the end of it
  have end1 : ∀ i : Int, 0 ≤ i → i < (tl k).length → u_X40_isTitle_48 u X k p i = some 0 := fun i i0 i1 => by
    rw [eu_X40_isTitle_48]; unfold du_X40_isTitle_48
    rw [Bk, Option.bind_some, T i i0 i1, Option.bind_some, if_neg (nz i.toNat (by omega)), Wz_0]
  rw [em_X40_isTitle]; unfold dm_X40_isTitle
  rw [eu_X40_isTitle_2]; unfold du_X40_isTitle_2
  by_cases cm : m - p < (tl k).length
  · -- the name ends ahead of the title
    have nE : ¬ tE g p k := fun h => by
      have := h.1 (m - p).toNat (by omega)
      rw [show p + ((m - p).toNat : Int) = m by omega, m2] at this
      exact nz _ (by omega) this.symm
    refine ⟨0, ?_, .inr ⟨nE, rfl⟩⟩
    rcases jseekR (R := Int) (C := jc4 b_X40_isTitle_2) (s := u) (fun i => [X, (k : Int), p, i]) (fun i => ¬ g (p + i) = (tl k).getD i.toNat 0) (fun i => u_X40_isTitle_48 u X k p i) (u_X40_isTitle_48 u X k p (m - p)) 0 (m - p) (by omega) (fun i i0 i1 hi => by
        show b_X40_isTitle_2 u X k p i = _
        unfold b_X40_isTitle_2
        rw [Bk, Option.bind_some, T i i0 (by omega), Option.bind_some, if_neg (nz i.toNat (by omega)), G i i0 (by omega), Option.bind_some, Option.bind_some, T i i0 (by omega), Option.bind_some, if_pos (Decidable.not_not.mp hi), W32_in (by omega) (by omega)]) (fun i i0 i1 hi => by
        show b_X40_isTitle_2 u X k p i = _
        unfold b_X40_isTitle_2
        rw [Bk, Option.bind_some, T i i0 (by omega), Option.bind_some, if_neg (nz i.toNat (by omega)), G i i0 (by omega), Option.bind_some, Option.bind_some, T i i0 (by omega), Option.bind_some, if_neg hi]) (by
        show b_X40_isTitle_2 u X k p (m - p) = _
        unfold b_X40_isTitle_2
        rw [Bk, Option.bind_some, T (m - p) (by omega) (by omega), Option.bind_some, if_neg (nz (m - p).toNat (by omega)), G (m - p) (by omega) (by omega), Option.bind_some, Option.bind_some, T (m - p) (by omega) (by omega), Option.bind_some, if_neg (fun z => nz (m - p).toNat (by omega) (by rw [← z, show p + (m - p) = m by omega]; exact m2))]) with ⟨i, i0, i1, i2, -, ei⟩ | ⟨i2, ei⟩
    · rw [ei]; exact end1 i i0 (by omega)
    · rw [ei]; exact end1 _ (by omega) cm
  · rcases jseekR (R := Int) (C := jc4 b_X40_isTitle_2) (s := u) (fun i => [X, (k : Int), p, i]) (fun i => ¬ g (p + i) = (tl k).getD i.toNat 0) (fun i => u_X40_isTitle_48 u X k p i) (u_X40_isTitle_48 u X k p (tl k).length) 0 (tl k).length (by omega) (fun i i0 i1 hi => by
        show b_X40_isTitle_2 u X k p i = _
        unfold b_X40_isTitle_2
        rw [Bk, Option.bind_some, T i i0 (by omega), Option.bind_some, if_neg (nz i.toNat (by omega)), G i i0 (by omega), Option.bind_some, Option.bind_some, T i i0 (by omega), Option.bind_some, if_pos (Decidable.not_not.mp hi), W32_in (by omega) (by omega)]) (fun i i0 i1 hi => by
        show b_X40_isTitle_2 u X k p i = _
        unfold b_X40_isTitle_2
        rw [Bk, Option.bind_some, T i i0 (by omega), Option.bind_some, if_neg (nz i.toNat (by omega)), G i i0 (by omega), Option.bind_some, Option.bind_some, T i i0 (by omega), Option.bind_some, if_neg hi]) (by
        show b_X40_isTitle_2 u X k p _ = _
        unfold b_X40_isTitle_2
        rw [Bk, Option.bind_some, T0, Option.bind_some, if_pos rfl]) with ⟨i, i0, i1, i2, -, ei⟩ | ⟨i2, ei⟩
    · refine ⟨0, by rw [ei]; exact end1 i i0 i1, .inr ⟨fun h => i2 ?_, rfl⟩⟩
      have := h.1 i.toNat (by omega)
      rwa [nt i0] at this
    · rw [ei, eu_X40_isTitle_48]; unfold du_X40_isTitle_48
      rw [Bk, Option.bind_some, T0, Option.bind_some, if_pos rfl, G _ (by omega) (by omega), Option.bind_some]
      have hall : ∀ i : Nat, i < (tl k).length → g (p + i) = (tl k).getD i 0 := fun i hi => by
        have := Decidable.not_not.mp (i2 i (by omega) (by omega))
        rwa [show (i : Int).toNat = i by omega] at this
      by_cases c0 : g (p + (tl k).length) = 0
      · rw [if_pos c0]; exact ⟨_, rfl, .inl ⟨⟨hall, c0⟩, Wz_1⟩⟩
      · rw [if_neg c0]; exact ⟨_, rfl, .inr ⟨fun h => c0 h.2, Wz_0⟩⟩
/-- the twin's tables: a title's entry, an entry's title -/
def tN (u : jS) (X : Int) (g : Int → Int) : Prop := (∀ k : Nat, k < 11 → jf u 1000 (X + 32) k = ep g k) ∧ ∀ e, 1 ≤ e → e < RE g → jf u 1000 (X + 33) e = pt g e
theorem t_rnames (C : tCf s X g n) (h : tH s u X g) (hd : Hd g n) (hE : En g n) : jE (m_X40_nameFaults u X) (ckR (tOK fun t => tH s t X g ∧ tN t X g) (tBD s X) (Lnames g)) := by
  have hn := C.n8
  have hd' := hd
  obtain ⟨d1, d2, d3, d4, d5, d6, d7, d8, d9⟩ := hd
  have hd := hd'
  unfold Lnames Lstr
  rw [em_X40_nameFaults]; unfold dm_X40_nameFaults
  rw [t_r2 (C.rd h.1) (by omega) (by omega), Option.bind_some, show r2 g 50 = RN g from rfl, h.to C hd (by omega) d7 (by omega) (by omega), Option.bind_some]
  refine tk_if (L_cmp_0 _ _) (by rw [h.sp C hd (by omega) d7 (by omega) (by omega), Option.bind_some]; exact t_fault h.1 (by omega)) fun c3 => ?_
  have iS : isS g (RN g) := fun z => by omega
  have hS := (hE (RN g) d6 d7).1 iS
  have v4 := C.lo hd (e := RN g) (k := 4) (by omega) d7 (by omega) (by omega)
  have v5 := C.lo hd (e := RN g) (k := 5) (by omega) d7 (by omega) (by omega)
  rw [h.to C hd (by omega) d7 (by omega) (by omega), Option.bind_some]
  simp only [jlet]
  rw [h.to C hd (by omega) d7 (by omega) (by omega), Option.bind_some]
  rw [l2i_p, l2i_p, W32_in (z := rt g (RN g) 5) (by omega) (by omega)]
  rw [List.cons_append, List.cons_append, List.cons_append, List.nil_append]
  refine tk_no (by omega) (by rw [h.sp C hd (by omega) d7 (by omega) (by omega), Option.bind_some]; exact t_fault h.1 (by omega)) fun c5 => ?_
  rw [W32_in (z := rt g (RN g) 4) (by omega) (by omega), t_u1 (C.rd h.1) (by omega) (by omega), Option.bind_some]
  refine tk_if Iff.rfl (t_fault h.1 (by omega)) fun c4 => ?_
  rw [W32_in (z := rt g (RN g) 4 + rt g (RN g) 5) (by omega) (by omega), W32_in (by omega) (by omega), t_u1 (C.rd h.1) (by omega) (by omega), Option.bind_some]
  refine tk_if Iff.rfl (t_fault h.1 (by omega)) fun c6 => ?_
  rw [eu_X40_nameFaults_111]; unfold du_X40_nameFaults_111
  refine jS_for (fun k t => tH s t X g ∧ ∀ i, 0 ≤ i → i < k → jf t 1000 (X + 32) i = 0) (fun k => [X, rt g (RN g) 4, rt g (RN g) 5, k]) 0 11 (by omega) ⟨h, fun i i0 i1 => by omega⟩ (fun k t k0 k1 ⟨e1, e2⟩ => ?_) (fun t ⟨e1, e2⟩ => ?_)
  · show jE (b_X40_nameFaults_111 t X _ _ k) _
    unfold b_X40_nameFaults_111
    rw [if_pos k1, jst_in k0 k1, Option.bind_some, W32_in (by omega) (by omega)]
    refine jS_end ⟨rfl, ⟨e1.1.jp (.inl ⟨rfl, by omega⟩), by (repeat (first | rw [jf_neg (by omega)] | rw [jf_pos (by omega)] | rw [ou_neg (by omega)] | rw [ou_pos (by omega)])); exact e1.2.1, by (repeat (first | rw [jf_neg (by omega)] | rw [jf_pos (by omega)] | rw [ou_neg (by omega)] | rw [ou_pos (by omega)])); exact e1.2.2⟩, fun i i0 i1 => ?_⟩
    by_cases c : i = k
    · rw [jf_pos ⟨rfl, rfl, c⟩]
    · (repeat (first | rw [jf_neg (by omega)] | rw [jf_pos (by omega)] | rw [ou_neg (by omega)] | rw [ou_pos (by omega)])); exact e2 i i0 (by omega)
  show jE (b_X40_nameFaults_111 t X _ _ 11) _
  unfold b_X40_nameFaults_111
  rw [if_neg (by omega), eu_X40_nameFaults_132]; unfold du_X40_nameFaults_132
  rw [eu_X40_nameFaults_135]; unfold du_X40_nameFaults_135
  refine jS_inr (jE_mono (?_ : jE _ (ckR (tOK fun t => tH s t X g ∧ tN t X g) (tBD s X) _)) fun r hr => hr)
  refine jk_for (Lname g) (fun e w => tH s w X g ∧ (∀ k : Nat, k < 11 → (jf w 1000 (X + 32) k = 0 ∧ ∀ j, 1 ≤ j → j < e → ¬ isT g j k) ∨ ∃ j, 1 ≤ j ∧ j < e ∧ isT g j k ∧ jf w 1000 (X + 32) k = j) ∧ ∀ j, 1 ≤ j → j < e → jf w 1000 (X + 33) j = pt g j) (fun k => [X, rt g (RN g) 4, rt g (RN g) 5, k]) 1 (RE g) d4 ⟨e1, fun k hk => .inl ⟨e2 _ (by omega) (by omega), fun j j0 j1 => by omega⟩, fun j j0 j1 => by omega⟩ (fun e w k0 k1 _ ⟨f1, f2, f3⟩ => ?_) fun w ⟨f1, f2, f3⟩ hG => ?_
  · show jE (b_X40_nameFaults_135 w X _ _ e) _
    unfold b_X40_nameFaults_135
    have ve := C.lo hd (e := e) (k := 0) (by omega) k1 (by omega) (by omega)
    rw [f1.2.2, if_pos k1, jst_in (by omega) (by omega), Option.bind_some]
    have F1 : tH s (jp w 1000 (X + 33) e (-1)) X g := ⟨f1.1.jp (.inl ⟨rfl, by omega⟩), by (repeat (first | rw [jf_neg (by omega)] | rw [jf_pos (by omega)] | rw [ou_neg (by omega)] | rw [ou_pos (by omega)])); exact f1.2.1, by (repeat (first | rw [jf_neg (by omega)] | rw [jf_pos (by omega)] | rw [ou_neg (by omega)] | rw [ou_pos (by omega)])); exact f1.2.2⟩
    rw [F1.to C hd (by omega) k1 (by omega) (by omega), Option.bind_some]
    unfold Lname
    by_cases c0 : rt g e 0 < rt g (RN g) 5
    rotate_left
    · rw [if_neg (fun z => c0 ((L_cmp_lt _ _).mp z)), eu_X40_nameFaults_165]; unfold du_X40_nameFaults_165
      rw [F1.sp C hd (by omega) k1 (by omega) (by omega), Option.bind_some]
      exact jk_no (fun z => c0 z.1) (t_faultR F1.1 (by omega))
    rw [if_pos ((L_cmp_lt _ _).mpr c0), eu_X40_nameFaults_182]; unfold du_X40_nameFaults_182
    refine jS_for (fun i t => tH s t X g ∧ (∀ k, jf t 1000 (X + 32) k = jf w 1000 (X + 32) k) ∧ (∀ j, ¬ j = e → jf t 1000 (X + 33) j = jf w 1000 (X + 33) j) ∧ ((jf t 1000 (X + 33) e = -1 ∧ ∀ k : Nat, k < i → ¬ isT g e k) ∨ ∃ k : Nat, k < i ∧ isT g e k ∧ jf t 1000 (X + 33) e = k)) (fun i => [X, rt g (RN g) 4, rt g (RN g) 5, e, i]) 0 11 (by omega) ⟨F1, fun k => by (repeat (first | rw [jf_neg (by omega)] | rw [jf_pos (by omega)] | rw [ou_neg (by omega)] | rw [ou_pos (by omega)])), fun j hj => by (repeat (first | rw [jf_neg (by omega)] | rw [jf_pos (by omega)] | rw [ou_neg (by omega)] | rw [ou_pos (by omega)])), .inl ⟨by (repeat (first | rw [jf_neg (by omega)] | rw [jf_pos (by omega)] | rw [ou_neg (by omega)] | rw [ou_pos (by omega)])), fun k hk => by omega⟩⟩ (fun i t i0 i1 ⟨g1, g2, g3, g4⟩ => ?_) (fun t ⟨g1, g2, g3, g4⟩ => ?_)
    · show jE (b_X40_nameFaults_182 t X _ _ e i) _
      unfold b_X40_nameFaults_182
      have e217 : ∀ t', u_X40_nameFaults_217 t' X (rt g (RN g) 4) (rt g (RN g) 5) e i = some (.inl (t', [X, rt g (RN g) 4, rt g (RN g) 5, e, i + 1])) := fun t' => by
        rw [eu_X40_nameFaults_217]; unfold du_X40_nameFaults_217
        rw [W32_in (by omega) (by omega)]
      rw [if_pos i1, g1.to C hd (by omega) k1 (by omega) (by omega), Option.bind_some, l2i_p, W32_in (z := rt g e 0) (by omega) (by omega), W32_in (by omega) (by omega)]
      obtain ⟨z, ez, hz⟩ := t_isTitle (C.rd g1.1) (k := i.toNat) (by omega) (p := rt g (RN g) 4 + rt g e 0) (by omega) ⟨rt g (RN g) 4 + rt g (RN g) 5 - 1, by omega, by omega, c6⟩
      rw [nt i0] at ez
      rw [ez, Option.bind_some]
      rcases hz with ⟨z1, z2⟩ | ⟨z1, z2⟩
      · rw [if_neg (by omega), jst_in (by omega) (by omega), Option.bind_some, e217]
        refine jS_end ⟨rfl, ⟨g1.1.jp (.inl ⟨rfl, by omega⟩), by (repeat (first | rw [jf_neg (by omega)] | rw [jf_pos (by omega)] | rw [ou_neg (by omega)] | rw [ou_pos (by omega)])); exact g1.2.1, by (repeat (first | rw [jf_neg (by omega)] | rw [jf_pos (by omega)] | rw [ou_neg (by omega)] | rw [ou_pos (by omega)])); exact g1.2.2⟩, fun k => by (repeat (first | rw [jf_neg (by omega)] | rw [jf_pos (by omega)] | rw [ou_neg (by omega)] | rw [ou_pos (by omega)])); exact g2 k, fun j hj => by (repeat (first | rw [jf_neg (by omega)] | rw [jf_pos (by omega)] | rw [ou_neg (by omega)] | rw [ou_pos (by omega)])); exact g3 j hj, .inr ⟨i.toNat, by omega, ⟨by omega, z1⟩, by rw [jf_pos ⟨rfl, rfl, rfl⟩]; omega⟩⟩
      · rw [if_pos z2, e217]
        refine jS_end ⟨rfl, g1, g2, g3, ?_⟩
        rcases g4 with ⟨q1, q2⟩ | ⟨k, q1, q2, q3⟩
        · refine .inl ⟨q1, fun k hk hT => ?_⟩
          by_cases ck : k = i.toNat
          · subst ck; exact z1 hT.2
          · exact q2 k (by omega) hT
        · exact .inr ⟨k, by omega, q2, q3⟩
    · show jE (b_X40_nameFaults_182 t X _ _ e 11) _
      unfold b_X40_nameFaults_182
      rw [if_neg (by omega), eu_X40_nameFaults_223]; unfold du_X40_nameFaults_223
      refine jS_inr ?_
      show jE _ (ckR _ _ _)
      have bad : ∀ q : Prop, ¬ q → jE (jinr (u_X40_nameFaults_249 t X e) : Option ((jS × List Int) ⊕ (jS × Int))) (ckR (fun x => ∃ t, x = .inl (t, [X, rt g (RN g) 4, rt g (RN g) 5, e + 1]) ∧ tH s t X g ∧ (∀ k : Nat, k < 11 → (jf t 1000 (X + 32) k = 0 ∧ ∀ j, 1 ≤ j → j < e + 1 → ¬ isT g j k) ∨ ∃ j, 1 ≤ j ∧ j < e + 1 ∧ isT g j k ∧ jf t 1000 (X + 32) k = j) ∧ ∀ j, 1 ≤ j → j < e + 1 → jf t 1000 (X + 33) j = pt g j) (fun f p x => ∃ r, x = .inr r ∧ tBD s X f p r) [(q, 16, rf g e 0)]) := fun q hq => jk_no hq (by
        rw [eu_X40_nameFaults_249]; unfold du_X40_nameFaults_249
        rw [g1.sp C hd (by omega) k1 (by omega) (by omega), Option.bind_some]
        exact t_faultR g1.1 (by omega))
      rw [jlt_in (by omega) (by omega), Option.bind_some]
      rcases g4 with ⟨q1, q2⟩ | ⟨k, q1, q2, q3⟩
      · rw [if_pos q1]
        exact bad _ fun ⟨_, k, hT, _⟩ => q2 k (by have := hT.1; omega) hT
      · rw [if_neg (by omega), q3, Option.bind_some, jlt_in (by omega) (by omega), Option.bind_some, g2]
        rcases f2 k q2.1 with ⟨p1, p2⟩ | ⟨j, j0, j1, j2, j3⟩
        · rw [if_pos p1, Option.bind_some, jst_in (by omega) (by omega), Option.bind_some, W32_in (by omega) (by omega)]
          refine jk_ok ⟨c0, k, q2, p2⟩ (jk_end (jS_end ⟨_, rfl, ⟨g1.1.jp (.inl ⟨rfl, by omega⟩), by (repeat (first | rw [jf_neg (by omega)] | rw [jf_pos (by omega)] | rw [ou_neg (by omega)] | rw [ou_pos (by omega)])); exact g1.2.1, by (repeat (first | rw [jf_neg (by omega)] | rw [jf_pos (by omega)] | rw [ou_neg (by omega)] | rw [ou_pos (by omega)])); exact g1.2.2⟩, fun k' hk' => ?_, fun j j0 j1 => ?_⟩))
          · by_cases ck : k' = k
            · subst ck
              exact .inr ⟨e, k0, by omega, q2, by (repeat (first | rw [jf_neg (by omega)] | rw [jf_pos (by omega)] | rw [ou_neg (by omega)] | rw [ou_pos (by omega)]))⟩
            · rw [jf_neg (by omega), g2]
              rcases f2 k' hk' with ⟨r1, r2⟩ | ⟨j, j0, j1, j2, j3⟩
              · exact .inl ⟨r1, fun j j0 j1 hj => by
                  by_cases cj : j = e
                  · subst cj; exact ck (isT_one hj q2)
                  · exact r2 j j0 (by omega) hj⟩
              · exact .inr ⟨j, j0, by omega, j2, j3⟩
          · rw [jf_neg (by omega)]
            by_cases cj : j = e
            · subst cj
              rw [q3, pt_of q2]
            · rw [g3 j cj]; exact f3 j j0 (by omega)
        · rw [if_neg (by omega)]
          refine bad _ fun ⟨_, k', hk', q⟩ => ?_
          have := isT_one q2 hk'
          subst this
          exact q j j0 j1 j2
  · show jE (b_X40_nameFaults_135 w X _ _ (RE g)) _
    unfold b_X40_nameFaults_135
    have hN := Nm_of (ckF_gd.mpr hG)
    rw [f1.2.2, if_neg (by omega)]
    refine jS_inr (jS_end ⟨_, rfl, ck_end ⟨rfl, f1, fun k hk => ?_, f3⟩⟩)
    show jf w 1000 (X + 32) k = ep g k
    rcases ep_cases hN k with ⟨p1, p2⟩ | ⟨p1, p2, p3⟩
    · rw [p1]
      rcases f2 k hk with ⟨g1, g2⟩ | ⟨j, j0, j1, j2, j3⟩
      · exact g1
      · exact absurd (pt_of j2) (p2 j j0 j1)
    · rcases f2 k hk with ⟨g1, g2⟩ | ⟨j, j0, j1, j2, j3⟩
      · have := (hN _ p1 p2).2.1
        rw [p3] at this
        exact absurd this (g2 _ p1 p2)
      · rw [j3]
        exact (hN _ p1 p2).2.2 j j0 j1 ((pt_of j2).trans p3.symm)
end jTread2
