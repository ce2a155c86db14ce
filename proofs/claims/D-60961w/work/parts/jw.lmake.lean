/-! the component's layout is built: frames, pools, parts, labels -/
set_option maxRecDepth 100000
section jLmake
variable {s t u w' : jS} {a k m o p v l n x y c j X f z B i q w S P Q P' Q' : Int} {d e : Int → Int → Int}
abbrev lKk (c : Int) : Prop := c = 40 ∨ (70 ≤ c ∧ c ≤ 77) ∨ (1015 ≤ c ∧ c ≤ 1021)
/-- what is written when the layout is built -/
def lbW (B : Int) (s u : jS) (P Q : Int) : Prop := jGw s u P Q (fun a => B ≤ a ∧ a ≤ B + 11 ∨ 70 ≤ jK s a ∧ jK s a ≤ 77) ∧ ∀ c a k, ¬ lKk c → ¬ (c = 1000 ∧ B + 8 ≤ a ∧ a ≤ B + 11) → jf u c a k = jf s c a k
theorem lbW.rfl : lbW B s s 0 0 := ⟨.rfl, fun _ _ _ _ _ => Eq.refl _⟩
theorem lbW.trans (h : lbW B s u P Q) (g : lbW B u w' P' Q') : lbW B s w' (P + P') (Q + Q') := ⟨h.1.trans g.1 fun a ha q => by
  rcases q with q | q
  · exact q
  · rw [h.1.K ha] at q; exact q, fun c a k q1 q2 => (g.2 c a k q1 q2).trans (h.2 c a k q1 q2)⟩
theorem lbW.mono (h : lbW B s u P Q) (h1 : P ≤ P') (h2 : Q ≤ Q') : lbW B s u P' Q' := ⟨h.1.mono h1 h2 fun _ _ q => q, h.2⟩
theorem lbW.jp (h : lbW B s u P Q) (hc : lKk c ∨ c = 1000 ∧ B + 8 ≤ a ∧ a ≤ B + 11) (ha : (B ≤ a ∧ a ≤ B + 11) ∨ 70 ≤ jK u a ∧ jK u a ≤ 77) : lbW B s (jp u c a k v) P Q := ⟨h.1.jp (by
  by_cases q : jn s ≤ a
  · exact .inr q
  · rw [h.1.K (by omega)] at ha; exact .inl ha), fun c' a' k' q1 q2 => by
  rw [jf_neg (by rintro ⟨rfl, rfl, rfl⟩; rcases hc with z | z; exact q1 z; exact q2 z)]; exact h.2 c' a' k' q1 q2⟩
theorem lbW.mk {g : Int → Int} (h : lbW B s u P Q) (hc : lKk c) : lbW B s (jmk u c n g z) (P + 1) (Q + z) := ⟨h.1.mk, fun c' a' k' q1 q2 => by
  have : ¬ (c' = c ∧ a' = jn u) := fun z => q1 (by rw [z.1]; exact hc)
  show (if c' = c ∧ a' = jn u then g k' else jf u c' a' k') = _
  rw [if_neg this]; exact h.2 c' a' k' q1 q2⟩
theorem jmk_old {g : Int → Int} (h : a < jn s) : jK (jmk s c n g z) a = jK s a ∧ jN (jmk s c n g z) a = jN s a ∧ ∀ c' k, jf (jmk s c n g z) c' a k = jf s c' a k := ⟨if_neg (by omega), if_neg (by omega), fun c' k => if_neg (by omega)⟩
/-- nothing that is laid out is written -/
theorem cLs.cg (h : cLs s B d) (v : vLy d) (hn : jn s ≤ jn u) (hK : ∀ a, a < jn s → jK u a = jK s a ∧ jN u a = jN s a) (f40 : ∀ k, 15 ≤ k → k ≤ 18 → jf u 40 B k = jf s 40 B k) (f8 : ∀ k, jf u 1000 (B + 8) k = jf s 1000 (B + 8) k) (fP : ∀ p, 0 ≤ p → p < d 0 0 → poP u B p = poP s B p) (fK : ∀ k, 0 ≤ k → k < d 0 1 → poK u B k = poK s B k) (fL : ∀ l, 0 ≤ l → l < d 0 2 → poL u B l = poL s B l)
    (gP : ∀ p, 0 ≤ p → p < d 0 0 → ∀ k, jf u 70 (poP s B p) k = jf s 70 (poP s B p) k) (gK : ∀ k, 0 ≤ k → k < d 0 1 → ∀ c j, (c = 72 ∨ c = 73 ∨ c = 76 ∨ c = 77) → jf u c (poK s B k) j = jf s c (poK s B k) j) (gL : ∀ l, 0 ≤ l → l < d 0 2 → ∀ k, jf u 74 (poL s B l) k = jf s 74 (poL s B l) k) : cLs u B d := by
  obtain ⟨⟨b0, b1, b2, b3⟩, ⟨c1, c2, c3, c4⟩, h3, h4, h5, h6, h7, h8, h9⟩ := h
  refine ⟨⟨b0, by omega, by rw [(hK _ (by omega)).1]; exact b2, by rw [(hK _ (by omega)).2]; exact b3⟩, ⟨by rw [f40 _ (by omega) (by omega)]; exact c1, by rw [f40 _ (by omega) (by omega)]; exact c2, by rw [f40 _ (by omega) (by omega)]; exact c3, by rw [f40 _ (by omega) (by omega)]; exact c4⟩, fun o o0 o1 => by rw [f8]; exact h3 o o0 o1, fun p p0 p1 => ?_, fun k k0 k1 => ?_, fun l l0 l1 => ?_, fun p q p0 p1 q0 q1 => ?_, fun p q p0 p1 q0 q1 => ?_, fun p q p0 p1 q0 q1 => ?_⟩
  · obtain ⟨⟨a1, a2, a3⟩, a4, a5, a6, a7, a8⟩ := h4 p p0 p1
    obtain ⟨-, -, g3, -⟩ := v.2.2.2.2.1 p p0 p1
    unfold cPt
    rw [fP p p0 p1, (hK _ a2).1, gP p p0 p1, gP p p0 p1, gP p p0 p1, gP p p0 p1, gP p p0 p1]
    refine ⟨⟨a1, by omega, a3⟩, a4, a5, a6, ?_, ?_⟩
    · rw [a7]
      by_cases c : d 3 p < d 4 p
      · rw [if_pos c, if_pos c, fK _ (by omega) (by omega)]
      · rw [if_neg c, if_neg c]
    · rw [a8]
      by_cases c : d 3 p < d 4 p
      · rw [if_pos c, if_pos c, fK _ (by omega) (by omega)]
      · rw [if_neg c, if_neg c]
  · obtain ⟨⟨a1, a2, a3⟩, ⟨a4, a4'⟩, a5, a6, a7, a8, a9, a10⟩ := h5 k k0 k1
    obtain ⟨-, ⟨w1, w2, w3, w4⟩, -, -, gm⟩ := v.2.2.2.2.2.2.1 k k0 k1
    obtain ⟨-, -, g3, -⟩ := v.2.2.2.2.1 _ w1 w2
    have kk := kOf_c (f := d 5 k)
    have hc : kOf (d 5 k) = 72 ∨ kOf (d 5 k) = 73 ∨ kOf (d 5 k) = 76 ∨ kOf (d 5 k) = 77 := by omega
    unfold pcX at a4 a4'
    unfold cPc pcX
    rw [fK k k0 k1, (hK _ a2).1]
    refine ⟨⟨a1, by omega, a3⟩, ⟨by rw [gK k k0 k1 _ _ hc, fP _ w1 w2]; exact a4, ?_⟩, fun z => by rw [gK k k0 k1 _ _ (by omega)]; exact a5 z, fun z => by rw [gK k k0 k1 _ _ (by omega), gK k k0 k1 _ _ (by omega)]; exact a6 z, fun z => ?_, fun z => by rw [gK k k0 k1 _ _ (by omega)]; exact a8 z, fun z => by rw [gK k k0 k1 _ _ (by omega), gK k k0 k1 _ _ (by omega)]; exact a9 z, fun z => by rw [gK k k0 k1 _ _ (by omega)]; exact a10 z⟩
    · rw [gK k k0 k1 _ _ hc, a4']
      by_cases c : k + 1 < d 4 (d 11 k)
      · rw [if_pos c, if_pos c, fK _ (by omega) (by omega)]
      · rw [if_neg c, if_neg c]
    · obtain ⟨⟨l0, l1⟩, -⟩ := gm z
      rw [gK k k0 k1 _ _ hc, gK k k0 k1 _ _ hc, gK k k0 k1 _ _ hc, gK k k0 k1 _ _ hc, fL _ l0 l1]
      exact a7 z
  · obtain ⟨⟨a1, a2, a3⟩, a4, a5⟩ := h6 l l0 l1
    unfold cLb
    rw [fL l l0 l1, (hK _ a2).1, gL l l0 l1, gL l l0 l1]
    refine ⟨⟨a1, by omega, a3⟩, ?_, a5⟩
    rw [a4]
    rcases v.2.2.2.2.2.2.2.1 l l0 l1 with z | ⟨z, -⟩
    · rw [if_pos z, if_pos z]
    · rw [if_neg (by omega), if_neg (by omega), fK _ z.1 z.2]
  · rw [fP _ p0 p1, fP _ q0 q1]; exact h7 p q p0 p1 q0 q1
  · rw [fK _ p0 p1, fK _ q0 q1]; exact h8 p q p0 p1 q0 q1
  · rw [fL _ p0 p1, fL _ q0 q1]; exact h9 p q p0 p1 q0 q1
/-- rows of objects that are used again -/
def plR (s : jS) (c a K n : Int) : Prop := ∀ i, 0 ≤ i → i < n → jf s c a i = -1 ∨ ((0 ≤ jf s c a i ∧ jf s c a i < jn s ∧ jK s (jf s c a i) = K) ∧ ∀ j, 0 ≤ j → j < n → ¬ j = i → ¬ jf s c a j = jf s c a i)
theorem plR.cg {K : Int} (h : plR s c a K n) (hn : jn s ≤ jn u) (hK : ∀ x, x < jn s → jK u x = jK s x) (F : ∀ k, jf u c a k = jf s c a k) : plR u c a K n := fun i i0 i1 => by
  rw [F]
  rcases h i i0 i1 with q | ⟨⟨q1, q2, q3⟩, q4⟩
  · exact .inl q
  · exact .inr ⟨⟨q1, by omega, by rw [hK _ q2]; exact q3⟩, fun j j0 j1 hj => by rw [F]; exact q4 j j0 j1 hj⟩
/-- the next of them, made if it isn't there -/
theorem nx_gen {R : Type} {K nf : Int} {g : Int → Int} {ini : jS → Int → Option (jS × Int)} {G : jS → Option R} (hr : plR s c a K n) (i0 : 0 ≤ i) (i1 : i < n) (hb : jBd s 1 nf) (hn : 0 ≤ jn s) (hi : ∀ q x, 0 ≤ x → ini q x = some (q, 0)) (hcK : ¬ c = K) (hla : a < jn s) (hK0 : 0 ≤ K) (hnf : 0 ≤ nf) :
    ∃ u, ((jlt s c a n i).bind fun v1 => if v1 < 0 then (jnw s K nf g).bind fun q2 => (jck0 q2.2 (ini q2.1 q2.2)).bind fun q3 => (jst q3.1 c a n i q2.2).bind fun s4 => G s4 else G s) = G u ∧ (0 ≤ jf u c a i ∧ jf u c a i < jn u ∧ jK u (jf u c a i) = K) ∧ plR u c a K n ∧
      (jn s ≤ jn u ∧ jn u ≤ jn s + 1 ∧ ju s ≤ ju u ∧ ju u ≤ ju s + nf ∧ jlN u = jlN s ∧ jlU u = jlU s ∧ jc u = jc s) ∧ (∀ x, x < jn s → jK u x = jK s x ∧ jN u x = jN s x) ∧ (∀ c' a' k', ¬ (c' = c ∧ a' = a ∧ k' = i) → ¬ (c' = K ∧ a' = jn s) → jf u c' a' k' = jf s c' a' k') ∧ (jf u c a i = jf s c a i ∨ jn s ≤ jf u c a i) ∧ ((u = s) ∨ u = jp (jmk s K 0 g nf) c a i (jn s)) := by
  rw [jlt_in i0 i1, Option.bind_some]
  rcases hr i i0 i1 with q | ⟨⟨q1, q2, q3⟩, q4⟩
  · obtain ⟨b1, b2⟩ := hb
    obtain ⟨s1, S1⟩ : ∃ s1, s1 = jmk s K 0 g nf := ⟨_, rfl⟩
    obtain ⟨u, U⟩ : ∃ u, u = jp s1 c a i (jn s) := ⟨_, rfl⟩
    obtain ⟨F, F0, FK, FN, Fn⟩ := jpF U
    have e1 : jn s1 = jn s + 1 := by rw [S1]; rfl
    have eo : ∀ x, x < jn s → jK s1 x = jK s x ∧ jN s1 x = jN s x ∧ ∀ c' k, jf s1 c' x k = jf s c' x k := fun x hx => by rw [S1]; exact jmk_old hx
    have ek : jK s1 (jn s) = K := by rw [S1]; exact if_pos rfl
    refine ⟨u, ?_, ?_, fun j j0 j1 => ?_, ?_, fun x hx => by rw [FK, FN]; exact ⟨(eo x hx).1, (eo x hx).2.1⟩, fun c' a' k' z1 z2 => ?_, .inr (by rw [F0]; omega), .inr (by rw [U, S1])⟩
    · rw [if_pos (by omega)]
      unfold jnw
      rw [if_pos ⟨hn, b1, b2⟩, Option.bind_some, jck0_in hn, hi _ _ hn, Option.bind_some]
      show (jst (jmk s K 0 g nf) c a n i (jn s)).bind _ = _
      rw [jst_in i0 i1, Option.bind_some, U, S1]
    · rw [F0, FK, Fn]; exact ⟨hn, by omega, ek⟩
    · by_cases cj : j = i
      · rw [cj, F0, FK, Fn]
        refine .inr ⟨⟨hn, by omega, ek⟩, fun j' j0' j1' hj' => ?_⟩
        rw [F _ _ _ (by omega), (eo a hla).2.2]
        rcases hr j' j0' j1' with z | ⟨⟨-, z, -⟩, -⟩ <;> omega
      · rw [F _ _ _ (by omega), (eo a hla).2.2]
        rcases hr j j0 j1 with z | ⟨⟨z1, z2, z3⟩, z4⟩
        · exact .inl z
        · refine .inr ⟨⟨z1, by omega, by rw [FK, (eo _ z2).1]; exact z3⟩, fun j' j0' j1' hj' => ?_⟩
          by_cases cj' : j' = i
          · rw [cj', F0]; omega
          · rw [F _ _ _ (by omega), (eo a hla).2.2]; exact z4 j' j0' j1' hj'
    · rw [Fn, U, S1]
      refine ⟨?_, ?_, ?_, ?_, rfl, rfl, rfl⟩
      · show jn s ≤ jn s + 1; omega
      · show jn s + 1 ≤ jn s + 1; omega
      · show ju s ≤ ju s + nf; omega
      · show ju s + nf ≤ ju s + nf; omega
    · rw [F _ _ _ z1, S1]
      show (if c' = K ∧ a' = jn s then g k' else jf s c' a' k') = _
      rw [if_neg z2]
  · exact ⟨s, by rw [if_neg (by omega)], ⟨q1, q2, q3⟩, hr, ⟨Int.le_refl _, by omega, Int.le_refl _, by omega, rfl, rfl, rfl⟩, fun _ _ => ⟨rfl, rfl⟩, fun _ _ _ _ _ => rfl, .inl rfl, .inl rfl⟩
/-- its frame -/
theorem nx_w {K nf : Int} {g : Int → Int} (hK : lKk K) (hc : lKk c) (ha : B ≤ a ∧ a ≤ B + 11) (hnf : 0 ≤ nf) (h : (u = s) ∨ u = jp (jmk s K 0 g nf) c a i (jn s)) : lbW B s u 1 nf := by
  rcases h with rfl | rfl
  · exact lbW.rfl.mono (by omega) (by omega)
  · exact ((lbW.rfl.mk hK).mono (by omega) (by omega)).jp (.inl hc) (.inl ha)
def plC (K : Int) : Int := if K = 72 then 1021 else if K = 73 then 1016 else if K = 76 then 1015 else 1018
def plA (K : Int) : Int := if K = 72 then 4 else if K = 73 then 5 else if K = 76 then 6 else 7
abbrev isPk (K : Int) : Prop := K = 72 ∨ K = 73 ∨ K = 76 ∨ K = 77
def cPool (s : jS) (B : Int) : Prop := plR s 1019 (B + 1) 70 32 ∧ plR s 1017 (B + 3) 74 64 ∧ ∀ K, isPk K → plR s (plC K) (B + plA K) K 256
def cNp (s : jS) (B K : Int) : Int := jf s 40 B (plA K + 3)
theorem plC_c (h : isPk x) : x = 72 ∧ plC x = 1021 ∧ plA x = 4 ∨ x = 73 ∧ plC x = 1016 ∧ plA x = 5 ∨ x = 76 ∧ plC x = 1015 ∧ plA x = 6 ∨ x = 77 ∧ plC x = 1018 ∧ plA x = 7 := by
  rcases h with rfl | rfl | rfl | rfl <;> decide
/-- the rows' places -/
abbrev plP (B c a : Int) : Prop := (c = 1019 ∧ a = B + 1) ∨ (c = 1017 ∧ a = B + 3) ∨ (c = 1021 ∧ a = B + 4) ∨ (c = 1016 ∧ a = B + 5) ∨ (c = 1015 ∧ a = B + 6) ∨ (c = 1018 ∧ a = B + 7)
theorem plP_in {K : Int} (h : isPk K) : plP B (plC K) (B + plA K) := by
  rcases h with rfl | rfl | rfl | rfl
  · exact .inr (.inr (.inl ⟨rfl, rfl⟩))
  · exact .inr (.inr (.inr (.inl ⟨rfl, rfl⟩)))
  · exact .inr (.inr (.inr (.inr (.inl ⟨rfl, rfl⟩))))
  · exact .inr (.inr (.inr (.inr (.inr ⟨rfl, rfl⟩))))
theorem plS_in {K : Int} (h : isPk K) : 7 ≤ plA K + 3 ∧ plA K + 3 ≤ 10 := by
  rcases h with rfl | rfl | rfl | rfl <;> decide
theorem plC_in {K : Int} (h : isPk K) : 1015 ≤ plC K ∧ plC K ≤ 1021 ∧ ¬ plC K = 1019 ∧ ¬ plC K = 1017 ∧ ¬ plC K = 1020 := by
  rcases h with rfl | rfl | rfl | rfl <;> decide
/-- being built -/
def cBu (s : jS) (B : Int) (d : Int → Int → Int) : Prop := cLs s B d ∧ cPool s B ∧ jf s 40 B 19 = 0 ∧ 0 ≤ jn s ∧ ∀ K, isPk K → (0 ≤ cNp s B K ∧ cNp s B K ≤ d 0 1) ∧ ∀ k, 0 ≤ k → k < d 0 1 → kOf (d 5 k) = K → ∃ j, 0 ≤ j ∧ j < cNp s B K ∧ poK s B k = jf s (plC K) (B + plA K) j
theorem cPool.cg (h : cPool s B) (hn : jn s ≤ jn u) (hK : ∀ x, x < jn s → jK u x = jK s x) (F : ∀ c a k, plP B c a → jf u c a k = jf s c a k) : cPool u B := ⟨h.1.cg hn hK fun k => F _ _ _ (.inl ⟨rfl, rfl⟩), h.2.1.cg hn hK fun k => F _ _ _ (.inr (.inl ⟨rfl, rfl⟩)), fun K hk => (h.2.2 K hk).cg hn hK fun k => F _ _ _ (plP_in hk)⟩
/-- the building goes on -/
theorem cBu.cg (h : cBu s B d) (hc : cLs u B e) (hn : jn s ≤ jn u) (hK : ∀ x, x < jn s → jK u x = jK s x) (F : ∀ c a k, plP B c a → jf u c a k = jf s c a k) (F2 : ∀ k, poK u B k = poK s B k) (F4 : ∀ k, 7 ≤ k → k ≤ 10 → jf u 40 B k = jf s 40 B k) (h19 : jf u 40 B 19 = 0) (he : e 0 1 = d 0 1) (he5 : ∀ k, e 5 k = d 5 k) : cBu u B e := by
  obtain ⟨-, h2, h3, h4, h5⟩ := h
  refine ⟨hc, h2.cg hn hK F, h19, by omega, fun K hk => ?_⟩
  have kk := plS_in hk
  obtain ⟨a1, a2⟩ := h5 K hk
  have e1 : cNp u B K = cNp s B K := F4 _ kk.1 kk.2
  rw [e1, he]
  refine ⟨a1, fun k k0 k1 hz => ?_⟩
  rw [he5] at hz
  obtain ⟨j, j0, j1, j2⟩ := a2 k k0 k1 hz
  exact ⟨j, j0, j1, by rw [F _ _ _ (plP_in hk), F2]; exact j2⟩
theorem cLs.ptN {y : jS} {x : Int} (h : cLs u B d) (v : vLy d) (ex : jf u 1019 (B + 1) (d 0 0) = x) (hx : 0 ≤ x ∧ x < jn u ∧ jK u x = 70) (ne : ∀ p, 0 ≤ p → p < d 0 0 → ¬ poP u B p = x) (hm : jSm u y) (F : ∀ c a k, ¬ (c = 70 ∧ a = x) → ¬ (c = 40 ∧ a = B ∧ (k = 15 ∨ k = 19)) → jf y c a k = jf u c a k) (y15 : jf y 40 B 15 = d 0 0 + 1) (y0 : jf y 70 x 0 = o) (y1 : jf y 70 x 1 = w) (y4 : jf y 70 x 4 = 0) (y6 : jf y 70 x 6 = -1) (y7 : jf y 70 x 7 = -1) : cLs y B (dPt d o w) := by
  obtain ⟨b, ⟨c1, c2, c3, c4⟩, h3, h4, h5, h6, h7, h8, h9⟩ := h
  obtain ⟨m1, m2, m3, -⟩ := hm
  have eP : ∀ q, poP y B q = poP u B q := fun q => F _ _ _ (by omega) (by omega)
  have eK : ∀ q, poK y B q = poK u B q := fun q => F _ _ _ (by omega) (by omega)
  have eL : ∀ q, poL y B q = poL u B q := fun q => F _ _ _ (by omega) (by omega)
  have H : ∀ f k, 5 ≤ f → dPt d o w f k = d f k := fun f k hf => dPt_no (by omega) (by omega)
  refine ⟨by rw [m1, m2, m3]; exact b, ⟨by rw [dPt_0]; exact y15, by rw [F _ _ _ (by omega) (by omega), dPt_no (by omega) (by omega)]; exact c2, by rw [F _ _ _ (by omega) (by omega), dPt_no (by omega) (by omega)]; exact c3, by rw [F _ _ _ (by omega) (by omega), dPt_no (by omega) (by omega)]; exact c4⟩, fun o o0 o1 => by rw [F _ _ _ (by omega) (by omega), H _ _ (by decide)]; exact h3 o o0 o1, fun p p0 p1 => ?_, fun k k0 k1 => ?_, fun l l0 l1 => ?_, fun p q p0 p1 q0 q1 => ?_, fun p q p0 p1 q0 q1 => ?_, fun p q p0 p1 q0 q1 => ?_⟩
  · rw [dPt_0] at p1
    unfold cPt
    by_cases c : p = d 0 0
    · rw [c, eP, show poP u B (d 0 0) = x from ex, dPt_1, dPt_2, dPt_3, dPt_4, if_neg (Int.lt_irrefl _), if_neg (Int.lt_irrefl _), m1, m3]
      exact ⟨hx, y0, y1, y4, y6, y7⟩
    · have := h4 p p0 (by omega)
      have nx := ne p p0 (by omega)
      unfold cPt at this
      rw [eP, eK, eK, m1, m3, dPt_no (f := 1) (by omega) (by omega), dPt_no (f := 2) (by omega) (by omega), dPt_no (f := 3) (by omega) (by omega), dPt_no (f := 4) (by omega) (by omega), F _ _ _ (by omega) (by omega), F _ _ _ (by omega) (by omega), F _ _ _ (by omega) (by omega), F _ _ _ (by omega) (by omega), F _ _ _ (by omega) (by omega)]
      exact this
  · rw [dPt_no (by omega) (by omega)] at k1
    have := h5 k k0 k1
    obtain ⟨-, ⟨w1, w2, w3, w4⟩, -⟩ := v.2.2.2.2.2.2.1 k k0 k1
    have kk := kOf_c (f := d 5 k)
    unfold cPc pcX mvK at this ⊢
    rw [H 5 _ (by decide), H 6 _ (by decide), H 7 _ (by decide), H 8 _ (by decide), H 9 _ (by decide), H 10 _ (by decide), H 11 _ (by decide), H 15 _ (by decide), H 16 _ (by decide), dPt_no (f := 4) (by omega) (by omega), eK, eK, eP, eL, m1, m3]
    have R : ∀ c j, (c = 72 ∨ c = 73 ∨ c = 76 ∨ c = 77) → jf y c (poK u B k) j = jf u c (poK u B k) j := fun c j hc => F _ _ _ (by omega) (by omega)
    have hc : kOf (d 5 k) = 72 ∨ kOf (d 5 k) = 73 ∨ kOf (d 5 k) = 76 ∨ kOf (d 5 k) = 77 := by omega
    rw [R _ _ hc, R _ _ hc, R _ _ (by omega), R _ _ (by omega), R _ _ (by omega), R _ _ hc, R _ _ hc, R _ _ hc, R _ _ hc, R _ _ (by omega), R _ _ (by omega), R _ _ (by omega)]
    exact this
  · rw [dPt_no (by omega) (by omega)] at l1
    have := h6 l l0 l1
    unfold cLb at this ⊢
    rw [H 12 _ (by decide), H 13 _ (by decide), eL, eK, m1, m3, F _ _ _ (by omega) (by omega), F _ _ _ (by omega) (by omega)]
    exact this
  · rw [dPt_0] at p1 q1
    rw [eP, eP]
    intro hpq
    by_cases cp : p = d 0 0
    · rw [cp, show poP u B (d 0 0) = x from ex]
      exact fun z => ne q q0 (by omega) z.symm
    · by_cases cq : q = d 0 0
      · rw [cq, show poP u B (d 0 0) = x from ex]; exact ne p p0 (by omega)
      · exact h7 p q p0 (by omega) q0 (by omega) hpq
  · rw [dPt_no (by omega) (by omega)] at p1 q1
    rw [eK, eK]; exact h8 p q p0 p1 q0 q1
  · rw [dPt_no (by omega) (by omega)] at p1 q1
    rw [eL, eL]; exact h9 p q p0 p1 q0 q1
theorem c_renewP (u : jS) (x o w : Int) : ∃ y, m_X52_renew u x o w = some (y, 0) ∧ jSm u y ∧ (∀ c a k, ¬ (c = 70 ∧ a = x) → jf y c a k = jf u c a k) ∧ jf y 70 x 0 = o ∧ jf y 70 x 1 = w ∧ jf y 70 x 4 = 0 ∧ jf y 70 x 6 = -1 ∧ jf y 70 x 7 = -1 := by
  rw [em_X52_renew]; unfold dm_X52_renew
  rw [jzb_in (.inl rfl : (0 : Int) = 0 ∨ (0 : Int) = 1)]
  obtain ⟨y1, E_y1⟩ : ∃ y1, y1 = jp u 70 x 0 o := ⟨_, rfl⟩
  obtain ⟨f_y1, p_y1, -⟩ := jpF E_y1
  rw [jls_e, ← E_y1]
  obtain ⟨y2, E_y2⟩ : ∃ y2, y2 = jp y1 70 x 1 w := ⟨_, rfl⟩
  obtain ⟨f_y2, p_y2, -⟩ := jpF E_y2
  rw [jls_e, ← E_y2]
  rw [Option.bind_some]
  obtain ⟨y3, E_y3⟩ : ∃ y3, y3 = jp y2 70 x 4 0 := ⟨_, rfl⟩
  obtain ⟨f_y3, p_y3, -⟩ := jpF E_y3
  rw [jls_e, ← E_y3]
  rw [Option.bind_some]
  obtain ⟨y4, E_y4⟩ : ∃ y4, y4 = jp y3 70 x 5 0 := ⟨_, rfl⟩
  obtain ⟨f_y4, p_y4, -⟩ := jpF E_y4
  rw [jls_e, ← E_y4]
  obtain ⟨y5, E_y5⟩ : ∃ y5, y5 = jp y4 70 x 6 (-1) := ⟨_, rfl⟩
  obtain ⟨f_y5, p_y5, -⟩ := jpF E_y5
  rw [jls_e, ← E_y5]
  obtain ⟨y6, E_y6⟩ : ∃ y6, y6 = jp y5 70 x 7 (-1) := ⟨_, rfl⟩
  obtain ⟨f_y6, p_y6, -⟩ := jpF E_y6
  rw [jls_e, ← E_y6]
  refine ⟨y6, rfl, (((((jSm.rfl.wr E_y1).wr E_y2).wr E_y3).wr E_y4).wr E_y5).wr E_y6, fun c a k q => ?_, ?_, ?_, ?_, ?_, p_y6⟩
  · rw [f_y6 _ _ _ (by omega), f_y5 _ _ _ (by omega), f_y4 _ _ _ (by omega), f_y3 _ _ _ (by omega), f_y2 _ _ _ (by omega), f_y1 _ _ _ (by omega)]
  · rw [f_y6 _ _ _ (by omega), f_y5 _ _ _ (by omega), f_y4 _ _ _ (by omega), f_y3 _ _ _ (by omega), f_y2 _ _ _ (by omega)]; exact p_y1
  · rw [f_y6 _ _ _ (by omega), f_y5 _ _ _ (by omega), f_y4 _ _ _ (by omega), f_y3 _ _ _ (by omega)]; exact p_y2
  · rw [f_y6 _ _ _ (by omega), f_y5 _ _ _ (by omega), f_y4 _ _ _ (by omega)]; exact p_y3
  · rw [f_y6 _ _ _ (by omega)]; exact p_y5
/-- only kinds' cells of the layout are written, and nothing is new -/
theorem lbW.of (h : lbW B s u P Q) (m : jSm u w') (F : ∀ c a k, ¬ ((lKk c ∨ c = 1000 ∧ B + 8 ≤ a ∧ a ≤ B + 11) ∧ ((B ≤ a ∧ a ≤ B + 11) ∨ 70 ≤ jK u a ∧ jK u a ≤ 77)) → jf w' c a k = jf u c a k) : lbW B s w' P Q := by
  obtain ⟨m1, m2, m3, m4, m5, m6, m7⟩ := m
  obtain ⟨⟨h1, h2, h3⟩, h4⟩ := h
  refine ⟨⟨by rw [m3, m4, m5, m6, m7]; exact h1, fun a ha => by rw [m1, m2]; exact h2 a ha, fun c a k ha hA => ?_⟩, fun c a k q1 q2 => ?_⟩
  · have e1 := (h2 a ha).1
    rw [F c a k (fun q => hA (by rw [e1] at q; exact q.2))]; exact h3 c a k ha hA
  · rw [F c a k (fun q => q.1.elim q1 q2)]; exact h4 c a k q1 q2
/-- a part -/
theorem c_lpart (h : cBu s B d) (v : vLy d) (hb : jBd s 1 9) (ho : 0 ≤ o ∧ o < 4) (hw : 0 ≤ w ∧ w ≤ 12) : jE (m_X36_part s B o w) fun r => (d 0 0 = 32 ∧ r = (s, -1)) ∨ d 0 0 < 32 ∧ r.2 = d 0 0 ∧ cBu r.1 B (dPt d o w) ∧ lbW B s r.1 1 9 := by
  have hB := h
  obtain ⟨h, hp, h19, hn0, hN⟩ := h
  have v0 := v.1
  rw [em_X36_part]; unfold dm_X36_part
  rw [h.2.1.1]
  by_cases c32 : d 0 0 = 32
  · rw [if_pos c32]; exact jS_end (.inl ⟨c32, rfl⟩)
  rw [if_neg c32, e_X36_in, if_pos (by omega), Option.bind_some, if_neg n10, e_X36_in, if_pos (by omega), Option.bind_some, if_neg n10]
  obtain ⟨u, hu, ⟨x0, x1, x2⟩, hr, hj, hK, F, hor, hw1⟩ := nx_gen (g := jdf 70) (nf := 9) (ini := m_X52_init) (G := fun s => u_X36_part_63 s B o w) hp.1 v0.1 (by omega) hb hn0 (fun q x hx => by rw [em_X52_init]; unfold dm_X52_init; rw [jck0_in hx]) (by decide) (by have := h.1.2.1; omega) (by decide) (by decide)
  refine jS_to hu ?_
  have LW := nx_w (B := B) (by decide) (by decide) (by omega) (by decide) hw1
  clear hor hw1
  have lt1 : ∀ p, 0 ≤ p → p < d 0 0 → poP s B p < jn s := fun p p0 p1 => (h.2.2.2.1 p p0 p1).1.2.1
  have cu : cLs u B d := h.cg v hj.1 hK (fun k _ _ => F _ _ _ (by omega) (by omega)) (fun k => F _ _ _ (by omega) (by omega)) (fun p p0 p1 => F _ _ _ (by omega) (by omega)) (fun k k0 k1 => F _ _ _ (by omega) (by omega)) (fun l l0 l1 => F _ _ _ (by omega) (by omega)) (fun p p0 p1 k => F _ _ _ (by omega) (by have := lt1 p p0 p1; omega)) (fun k k0 k1 c j hc => F _ _ _ (by omega) (by omega)) (fun l l0 l1 k => F _ _ _ (by omega) (by omega))
  have pu : cPool u B := ⟨hr, hp.2.1.cg hj.1 (fun x hx => (hK x hx).1) fun k => F _ _ _ (by omega) (by omega), fun K hk => (hp.2.2 K hk).cg hj.1 (fun x hx => (hK x hx).1) fun k => F _ _ _ (by have := plC_in hk; omega) (by have := plC_in hk; omega)⟩
  have bu : cBu u B d := ⟨cu, pu, by rw [F _ _ _ (by omega) (by omega)]; exact h19, by omega, fun K hk => by
    have kk := plC_in hk
    obtain ⟨a1, a2⟩ := hN K hk
    have e1 : cNp u B K = cNp s B K := F _ _ _ (by omega) (by omega)
    rw [e1]
    refine ⟨a1, fun k k0 k1 hz => ?_⟩
    obtain ⟨j, j0, j1, j2⟩ := a2 k k0 k1 hz
    exact ⟨j, j0, j1, by rw [F (plC K) _ _ (by omega) (by omega)]; show jf u 1020 (B + 2) k = _; rw [F _ _ _ (by omega) (by omega)]; exact j2⟩⟩
  have ne : ∀ p, 0 ≤ p → p < d 0 0 → ¬ poP u B p = jf u 1019 (B + 1) (d 0 0) := fun p p0 p1 => by
    rcases hr (d 0 0) v0.1 (by omega) with z | ⟨-, z⟩
    · omega
    · exact z p p0 (by omega) (by omega)
  obtain ⟨x, X⟩ : ∃ x, x = jf u 1019 (B + 1) (d 0 0) := ⟨_, rfl⟩
  rw [← X] at x0 x1 x2 ne
  rw [eu_X36_part_63]; unfold du_X36_part_63
  obtain ⟨y0, ey, m0, F0, r0, r1, r4, r6, r7⟩ := c_renewP u x o w
  rw [cu.2.1.1, jlt_in v0.1 (by omega), Option.bind_some, ← X, jct_in (leafT (ty := 86) rfl rfl (by decide) ⟨x0, x1, x2⟩), ey, Option.bind_some]
  show jE (jls (jp y0 40 B 15 (W32 (jf y0 40 B 15 + 1))) _) _
  rw [F0 40 B 15 (by omega), cu.2.1.1, W32_in (by omega) (by omega), jzb_in (.inl rfl : (0 : Int) = 0 ∨ (0 : Int) = 1)]
  obtain ⟨y1, E_y1⟩ : ∃ y1, y1 = jp y0 40 B 15 (d 0 0 + 1) := ⟨_, rfl⟩
  obtain ⟨f_y1, p_y1, -⟩ := jpF E_y1
  rw [jls_e, ← E_y1]
  rw [Option.bind_some]
  obtain ⟨y, E_y⟩ : ∃ y, y = jp y1 40 B 19 0 := ⟨_, rfl⟩
  obtain ⟨f_y, p_y, -⟩ := jpF E_y
  rw [jls_e, ← E_y]
  have y15 : jf y 40 B 15 = d 0 0 + 1 := by rw [f_y _ _ _ (by omega)]; exact p_y1
  have hm : jSm u y := (m0.wr E_y1).wr E_y
  have FY : ∀ c a k, ¬ (c = 70 ∧ a = x) → ¬ (c = 40 ∧ a = B ∧ (k = 15 ∨ k = 19)) → jf y c a k = jf u c a k := fun c a k q1 q2 => by
    rw [f_y _ _ _ (by omega), f_y1 _ _ _ (by omega), F0 _ _ _ q1]
  have G : ∀ k, jf y 70 x k = jf y0 70 x k := fun k => by rw [f_y _ _ _ (by omega), f_y1 _ _ _ (by omega)]
  rw [y15, W32_in (by omega) (by omega)]
  have cy : cLs y B (dPt d o w) := cu.ptN v X.symm ⟨x0, x1, x2⟩ ne hm FY y15 (by rw [G]; exact r0) (by rw [G]; exact r1) (by rw [G]; exact r4) (by rw [G]; exact r6) (by rw [G]; exact r7)
  have hj40 : jK u B = jK u B := rfl
  refine jS_end (.inr ⟨by omega, by show d 0 0 + 1 - 1 = d 0 0; omega, bu.cg cy (by rw [hm.2.2.1]; exact Int.le_refl _) (fun x hx => by rw [hm.1]) (fun c a k q => FY _ _ _ (by omega) (by omega)) (fun k => FY _ _ _ (by omega) (by omega)) (fun k k0 k1 => FY _ _ _ (by omega) (by omega)) p_y (dPt_no (by omega) (by omega)) fun k => dPt_no (by omega) (by omega), LW.of hm fun c a k q => FY _ _ _ (fun z => q ⟨.inl (.inr (.inl (by omega))), .inr (by rw [z.2, x2]; decide)⟩) (fun z => q ⟨.inl (.inl z.1), .inl (by omega)⟩)⟩)
end jLmake
