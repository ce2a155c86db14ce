/-! the component reads words: within signs; registers by names -/
section jClex3
variable {s t u w v' : jS} {R x b a a' n p q r k c f v y e P Q lo : Int} {g : Int → Int} {S S' : Int → Prop} {l m : List Int}
theorem x_inside (h : rdI u R x b a g n) (k0 : 0 ≤ k) (k1 : k ≤ 2000) : ∃ z, (m_X44_inside u R k a' = some (jp u 53 R 7 z, inT g n k) ∧ inOK g n k a' ∧ z = inV g n k) ∨ (m_X44_inside u R k a' = some (jp u 53 R 7 z, -1) ∧ ¬ inOK g n k a') := by
  rw [em_X44_inside]; unfold dm_X44_inside
  rw [c_bt h k0, Option.bind_some]
  unfold inOK inV inT
  by_cases c : bt g n k = 92
  · rw [if_pos c, W32_in (by omega) (by omega), c_bt h (by omega), Option.bind_some, if_pos c, if_pos c, if_pos c]
    have e59 : ∀ z, ∃ z', (u_X44_inside_59 u k (bt g n (k + 1)) z R = some (jp u 53 R 7 z', k + 2) ∧ (bt g n (k + 1) = 110 ∨ bt g n (k + 1) = 116 ∨ bt g n (k + 1) = 48 ∨ bt g n (k + 1) = 92 ∨ bt g n (k + 1) = 39 ∨ bt g n (k + 1) = 34) ∧ z' = z) ∨ (u_X44_inside_59 u k (bt g n (k + 1)) z R = some (jp u 53 R 7 z', -1) ∧ ¬ (bt g n (k + 1) = 110 ∨ bt g n (k + 1) = 116 ∨ bt g n (k + 1) = 48 ∨ bt g n (k + 1) = 92 ∨ bt g n (k + 1) = 39 ∨ bt g n (k + 1) = 34)) := fun z => by
      refine ⟨z, ?_⟩
      have e104 : u_X44_inside_104 (jp u 53 R 7 z) k = some (jp u 53 R 7 z, k + 2) := by
        rw [eu_X44_inside_104]; unfold du_X44_inside_104; rw [W32_in (by omega) (by omega)]
      rw [eu_X44_inside_59]; unfold du_X44_inside_59
      simp only [jls]
      rw [e104]
      by_cases d1 : bt g n (k + 1) = 110
      · rw [if_pos d1]; exact .inl ⟨rfl, .inl d1, trivial⟩
      rw [if_neg d1]
      by_cases d2 : bt g n (k + 1) = 116
      · rw [if_pos d2]; exact .inl ⟨rfl, .inr (.inl d2), trivial⟩
      rw [if_neg d2]
      by_cases d3 : bt g n (k + 1) = 48
      · rw [if_pos d3]; exact .inl ⟨rfl, .inr (.inr (.inl d3)), trivial⟩
      rw [if_neg d3]
      by_cases d4 : bt g n (k + 1) = 92
      · rw [if_pos d4]; exact .inl ⟨rfl, by omega, trivial⟩
      rw [if_neg d4]
      by_cases d5 : bt g n (k + 1) = 39
      · rw [if_pos d5]; exact .inl ⟨rfl, by omega, trivial⟩
      rw [if_neg d5]
      by_cases d6 : bt g n (k + 1) = 34
      · rw [if_pos d6]; exact .inl ⟨rfl, by omega, trivial⟩
      rw [if_neg d6]; exact .inr ⟨rfl, by omega⟩
    by_cases d1 : bt g n (k + 1) = 110
    · rw [if_pos d1, if_pos d1]; exact e59 10
    rw [if_neg d1, if_neg d1]
    by_cases d2 : bt g n (k + 1) = 116
    · rw [if_pos d2, if_pos d2]; exact e59 9
    rw [if_neg d2, if_neg d2]
    by_cases d3 : bt g n (k + 1) = 48
    · rw [if_pos d3, if_pos d3]; exact e59 0
    rw [if_neg d3, if_neg d3]; exact e59 _
  · rw [if_neg c, if_neg c, if_neg c, if_neg c]
    simp only [jls]
    refine ⟨bt g n k, ?_⟩
    by_cases d1 : bt g n k < 32
    · rw [if_pos d1]; exact .inr ⟨rfl, by omega⟩
    rw [if_neg d1]
    by_cases d2 : 126 < bt g n k
    · rw [if_pos d2]; exact .inr ⟨rfl, by omega⟩
    rw [if_neg d2]
    by_cases d3 : bt g n k = a'
    · rw [if_pos d3]; exact .inr ⟨rfl, fun z => z.2.2 d3⟩
    rw [if_neg d3, W32_in (by omega) (by omega)]
    exact .inl ⟨rfl, ⟨by omega, by omega, d3⟩, rfl⟩
/-- a word read behind a note in the reader's slot of values -/
theorem wdQ.sl {w : wR4} {q : jS × Bool × Int} (h : rdI u R x b a g n) (hk : rSl u t R (fun k => k = 7)) (g' : wdQ t R x b a g n w q) : wdQ u R x b a g n w q := by
  have nx : ¬ x = R := fun z => by obtain ⟨l, hl⟩ := h.2.2.2.2.2.2.2.2.1; have := hl.1.2.2; rw [z] at this; have := h.1.2.2; omega
  have ex : jf t 8 x 0 = jf u 8 x 0 := hk.2 _ _ _ (by omega)
  have eA : ∀ a, rdA t R x a → rdA u R x a := fun a z => by unfold rdA at z ⊢; rw [ex] at z; exact z
  have en : jn t = jn u := hk.1.2.2.1
  rcases g' with ⟨h1, h2, h3⟩ | ⟨h1, h2, h3, h4, ⟨h5, h6, h7⟩, h8⟩
  · exact .inl ⟨h1, h2, (hk.gw.trans h3 fun a _ z => z.elim (fun z => .inl z) (eA a)).mono (by omega) (by omega) fun a _ z => z⟩
  · exact .inr ⟨h1, h2, h3, h4, ⟨(hk.gw.trans h5 fun a _ z => z.elim (fun z => .inl z) (eA a)).mono (by omega) (by omega) fun a _ z => z, by rw [← ex, ← en]; exact h6, fun k z => (h7 k z).trans (hk.2 _ _ _ (by omega))⟩, fun z => by rw [← en]; exact h8 z⟩
theorem x_character (h : rdI u R x b a g n) (hr : jf u 53 R 2 = r) (r0 : 0 ≤ r) (r1 : r < n) (hB : 0 ≤ jn u ∧ jBd u 1 6) : jE (m_X44_character u R) (wdQ u R x b a g n (wdC g n r)) := by
  obtain ⟨hb, n0, n1⟩ := h.2.2.2.2.2.2.2.1
  rw [em_X44_character]; unfold dm_X44_character wdC
  rw [hr, W32_in (by omega) (by omega)]
  have e28 : ∀ z, u_X44_character_28 (jp u 53 R 7 z) R = some (rWr (jp u 53 R 7 z) R 4 r, true, jn u) := fun z => by
    rw [eu_X44_character_28]; unfold du_X44_character_28
    rw [jf_neg (by omega), hr, c_thr (u := jp u 53 R 7 z) ⟨hB.1, hB.2⟩]; rfl
  have K : ∀ z, rSl u (jp u 53 R 7 z) R (fun k => k = 7) := fun z => rSl.rfl.jp rfl
  obtain ⟨z, ⟨e1, e2, e3⟩ | ⟨e1, e2⟩⟩ := x_inside (a' := 39) (k := r + 1) h (by omega) (by omega)
  · have hi := inOK_in hb (by omega) e2
    have hI := h.sl (K z) (by omega)
    have i0 : r + 1 < inT g n (r + 1) := by unfold inT; split <;> omega
    rw [e1, Option.bind_some, if_neg (by dsimp only; omega), c_bt hI (by dsimp only; omega), Option.bind_some, e28]
    dsimp only
    by_cases c : bt g n (inT g n (r + 1)) = 39
    · rw [if_pos c, cif_pos ⟨e2, c⟩, x_is, Option.bind_some, W32_in (by omega) (by omega), jf_pos ⟨rfl, rfl, rfl⟩, e3]
      exact jS_end ((wdQ.plain (e3 ▸ hI) (.inl rfl) (by omega)).sl h (K _))
    · rw [if_neg c, cif_neg (fun q => c q.2)]
      exact jS_end ((wdQ.bad (u := jp u 53 R 7 z) (by omega) hB.1).sl h (K z))
  · rw [e1, Option.bind_some, if_pos rfl, e28, cif_neg (fun q => e2 q.1)]
    exact jS_end ((wdQ.bad (u := jp u 53 R 7 z) (by omega) hB.1).sl h (K z))
theorem pSg.hs (h : pSg s a l) (k : hsFr s t y) : pSg t a l := by
  obtain ⟨⟨a0, a1, a2⟩, b, ⟨c0, c1, c2⟩, d, e, f⟩ := h
  have K : jK t = jK s := k.1.1
  have N : jN t = jN s := k.1.2.1
  have nn : jn t = jn s := k.1.2.2.1
  have e0 : ∀ j, j = 0 ∨ j = 1 → jF t a j = jF s a j := fun j hj => by unfold jF; rw [K]; exact k.2.2 _ _ _ (by omega)
  have e1 : ∀ j, jF t (jF s a 0) j = jF s (jF s a 0) j := fun j => by unfold jF; rw [K]; exact k.2.2 _ _ _ (by unfold jF at c2; omega)
  refine ⟨⟨a0, by omega, by rw [K]; exact a2⟩, by rw [e0 1 (.inr rfl)]; exact b, by rw [e0 0 (.inl rfl), K]; exact ⟨c0, by omega, c2⟩, by rw [e0 0 (.inl rfl), N]; exact d, e, fun i hi => by rw [e0 0 (.inl rfl), e1]; exact f i hi⟩
theorem hsFr.gw (k : hsFr s t y) : jGw s t 0 0 (fun a => a = y) := by
  obtain ⟨⟨h1, h2, h3, h4, h5, h6, h7⟩, -, h8⟩ := k
  exact ⟨⟨by omega, by omega, by omega, h5, h6, h7⟩, fun a _ => ⟨by rw [h1], by rw [h2]⟩, fun c a k _ z => h8 c a k fun q => z q.2.1⟩
theorem x_numbered (h : pSg s y l) (hl : (l.length : Int) ≤ 1000) : m_X11_numberedOf s y = some (rgN l) := by
  rw [em_X11_numberedOf]; unfold dm_X11_numberedOf
  rw [s_len h (by omega), Option.bind_some]
  have no : (¬ (l.length = 2 ∧ isDg (l.getD 1 0))) → ¬ (l.length = 3 ∧ isDg (l.getD 1 0) ∧ isDg (l.getD 2 0) ∧ ¬ l.getD 1 0 = 48) → some (-1 : Int) = some (rgN l) := fun z1 z2 => by unfold rgN; rw [cif_neg z1, cif_neg z2]
  by_cases c1 : (l.length : Int) < 2
  · rw [if_pos c1]; exact no (by omega) (by omega)
  by_cases c2 : 3 < (l.length : Int)
  · rw [if_neg c1, if_pos c2]; exact no (by omega) (by omega)
  have ch : ∀ j : Nat, j < l.length → mp_J2_charAt s y j = some (l.getD j 0) ∧ 0 ≤ l.getD j 0 ∧ l.getD j 0 < 256 := fun j hj => by
    have := s_charAt h (k := j) (by omega) (by omega)
    exact ⟨this, h.2.2.2.2.1.at hj⟩
  have h0 := ch 0 (by omega)
  have h1 := ch 1 (by omega)
  have e0 : mp_J2_charAt s y 0 = some (l.getD 0 0) := h0.1
  have e1 : mp_J2_charAt s y 1 = some (l.getD 1 0) := h1.1
  have e90 : ∀ z, 0 ≤ z → z ≤ 100000 → u_X11_numberedOf_90 s y z = some (rgV (l.getD 0 0) z) := fun z z0 z1 => by
    rw [eu_X11_numberedOf_90]; unfold du_X11_numberedOf_90 rgV
    rw [e0, Option.bind_some, W32_in (by omega) (by omega), W32_in (by omega) (by omega), W32_in (by omega) (by omega), W32_in (by omega) (by omega), W32_in (by omega) (by omega)]
    (repeat' split) <;> first | rfl | omega
  rw [if_neg c1, if_neg c2, e1, Option.bind_some, c_isDg, Option.bind_some]
  by_cases d1 : isDg (l.getD 1 0)
  rotate_left
  · rw [cif_neg d1, if_pos rfl]; exact no (fun z => d1 z.2) (fun z => d1 z.2.1)
  rw [cif_pos d1, if_neg (by decide)]
  have d1' := d1
  unfold isDg at d1'
  have e54 : u_X11_numberedOf_54 s y l.length = if (l.length : Int) = 2 then some (rgV (l.getD 0 0) (l.getD 1 0 - 48)) else (mp_J2_charAt s y 2).bind fun v3 => u_X11_numberedOf_90 s y (W32 (W32 (W32 (10 * W32 (l.getD 1 0 - 48)) + v3) - 48)) := by
    rw [eu_X11_numberedOf_54]; unfold du_X11_numberedOf_54
    rw [e1, Option.bind_some, Option.bind_some, W32_in (z := l.getD 1 0 - 48) (by omega) (by omega), e90 _ (by omega) (by omega)]; rfl
  by_cases c3 : (l.length : Int) = 3
  · have h2 := ch 2 (by omega)
    have e2 : mp_J2_charAt s y 2 = some (l.getD 2 0) := h2.1
    rw [if_pos c3, e2, Option.bind_some, c_isDg, Option.bind_some]
    by_cases d2 : isDg (l.getD 2 0)
    rotate_left
    · rw [cif_neg d2, if_pos rfl]; exact no (fun z => by omega) (fun z => d2 z.2.2.1)
    have d2' := d2
    unfold isDg at d2'
    rw [cif_pos d2, if_neg (by decide), Option.bind_some]
    by_cases d3 : l.getD 1 0 = 48
    · rw [if_pos d3]; exact no (fun z => by omega) (fun z => z.2.2.2 d3)
    rw [if_neg d3, e54, if_neg (by omega), e2, Option.bind_some, W32_in (z := l.getD 1 0 - 48) (by omega) (by omega), W32_in (z := 10 * (l.getD 1 0 - 48)) (by omega) (by omega), W32_in (z := 10 * (l.getD 1 0 - 48) + l.getD 2 0) (by omega) (by omega), W32_in (z := 10 * (l.getD 1 0 - 48) + l.getD 2 0 - 48) (by omega) (by omega), e90 _ (by omega) (by omega)]
    unfold rgN
    rw [cif_neg (by omega), cif_pos ⟨by omega, d1, d2, d3⟩]
  · rw [if_neg c3, e54, if_pos (by omega)]
    unfold rgN
    rw [cif_pos ⟨by omega, d1⟩]
theorem x_register (h : pSg s y l) (hk : jK s y = 9) (hh : pHs s y l) (hC : pCon s) (hl : (l.length : Int) ≤ 1000) : jE (m_X11_registerOf s y) fun q => q.2 = rgO l ∧ hsFr s q.1 y ∧ pHs q.1 y l := by
  rw [em_X11_registerOf]; unfold dm_X11_registerOf
  refine jS_call (s_hash h hk hh (by omega)) fun q ⟨e1, e2, e3⟩ => ?_
  have hs1 := h.hs e2
  have C1 : pCon q.1 := hC.keep e2.gw fun a z => by have z' : a = y := z; rw [z', hk]; decide
  have eq : ∀ i : Nat, i < 202 → mp_J2_equals q.1 y (jc q.1 i) = some (if l = cS i then 1 else 0) := fun i hi => s_equals hs1 (C1.1 i hi).1 (by omega)
  have e149 : u_X11_registerOf_149 q.1 y (-1) = some (q.1, rgN l) := by
    rw [eu_X11_registerOf_149]; unfold du_X11_registerOf_149
    rw [if_neg (by decide), if_neg (by decide), if_neg (by decide), if_neg (by decide), if_neg (by decide), if_neg (by decide), x_numbered hs1 hl, Option.bind_some]
  have ecode : ∀ (z c : Int), (z = 0 ∧ c = 0 ∨ z = 1 ∧ c = 1 ∨ z = 2 ∧ c = 2 ∨ z = 3 ∧ c = 3 ∨ z = 4 ∧ c = 4 ∨ z = 5 ∧ c = 8) → u_X11_registerOf_149 q.1 y z = some (q.1, c) := fun z c hz => by
    rw [eu_X11_registerOf_149]; unfold du_X11_registerOf_149
    rcases hz with ⟨a1, a2⟩ | ⟨a1, a2⟩ | ⟨a1, a2⟩ | ⟨a1, a2⟩ | ⟨a1, a2⟩ | ⟨a1, a2⟩ <;> subst a1 a2 <;> rfl
  have hsc : hs (cS 182) = 3735208 ∧ hs (cS 183) = 3631 ∧ hs (cS 184) = 3677 ∧ hs (cS 185) = 3305 ∧ hs (cS 186) = 3708 ∧ hs (cS 187) = 3274 := by decide
  obtain ⟨s182, s183, s184, s185, s186, s187⟩ := hsc
  have rn : (∀ i : Nat, 182 ≤ i → i ≤ 187 → ¬ l = cS i) → rgO l = rgN l := fun z => by
    unfold rgO
    rw [if_neg (z 182 (by omega) (by omega)), if_neg (z 183 (by omega) (by omega)), if_neg (z 184 (by omega) (by omega)), if_neg (z 185 (by omega) (by omega)), if_neg (z 186 (by omega) (by omega)), if_neg (z 187 (by omega) (by omega))]
  have cases6 : ∀ i : Nat, 182 ≤ i → i ≤ 187 → i = 182 ∨ i = 183 ∨ i = 184 ∨ i = 185 ∨ i = 186 ∨ i = 187 := fun i _ _ => by omega
  have one : ∀ (i : Nat) (H z c : Int), i < 202 → q.2 = H → (z = 0 ∧ c = 0 ∨ z = 1 ∧ c = 1 ∨ z = 2 ∧ c = 2 ∨ z = 3 ∧ c = 3 ∨ z = 4 ∧ c = 4 ∨ z = 5 ∧ c = 8) → (l = cS i → rgO l = c) → (∀ j : Nat, 182 ≤ j → j ≤ 187 → ¬ j = i → ¬ hs (cS j) = H) → jE ((mp_J2_equals q.1 y (jc q.1 i)).bind fun v2 => if v2 = 0 then u_X11_registerOf_149 q.1 y (-1) else u_X11_registerOf_149 q.1 y z) fun r => r.2 = rgO l ∧ hsFr s r.1 y ∧ pHs r.1 y l := fun i H z c hi hH hz hc hj => by
    rw [eq i hi, Option.bind_some]
    by_cases d : l = cS i
    · rw [if_pos d, if_neg (by decide), ecode z c hz]
      exact jS_end ⟨(hc d).symm, e2, e3⟩
    · rw [if_neg d, if_pos rfl, e149]
      refine jS_end ⟨(rn fun j j0 j1 hl => ?_).symm, e2, e3⟩
      by_cases dj : j = i
      · subst dj; exact d hl
      · exact hj j j0 j1 dj (by rw [← hl, ← e1, hH])
  by_cases c1 : q.2 = 3274
  · rw [if_pos c1]
    exact one 187 3274 5 8 (by omega) c1 (by omega) (fun z => by rw [z]; decide) fun j j0 j1 dj => by
      rcases cases6 j j0 j1 with z | z | z | z | z | z <;> subst z <;> omega
  rw [if_neg c1]
  by_cases c2 : q.2 = 3305
  · rw [if_pos c2]
    exact one 185 3305 3 3 (by omega) c2 (by omega) (fun z => by rw [z]; decide) fun j j0 j1 dj => by
      rcases cases6 j j0 j1 with z | z | z | z | z | z <;> subst z <;> omega
  rw [if_neg c2]
  by_cases c3 : q.2 = 3631
  · rw [if_pos c3]
    exact one 183 3631 1 1 (by omega) c3 (by omega) (fun z => by rw [z]; decide) fun j j0 j1 dj => by
      rcases cases6 j j0 j1 with z | z | z | z | z | z <;> subst z <;> omega
  rw [if_neg c3]
  by_cases c4 : q.2 = 3677
  · rw [if_pos c4]
    exact one 184 3677 2 2 (by omega) c4 (by omega) (fun z => by rw [z]; decide) fun j j0 j1 dj => by
      rcases cases6 j j0 j1 with z | z | z | z | z | z <;> subst z <;> omega
  rw [if_neg c4]
  by_cases c5 : q.2 = 3708
  · rw [if_pos c5]
    exact one 186 3708 4 4 (by omega) c5 (by omega) (fun z => by rw [z]; decide) fun j j0 j1 dj => by
      rcases cases6 j j0 j1 with z | z | z | z | z | z <;> subst z <;> omega
  rw [if_neg c5]
  by_cases c6 : q.2 = 3735208
  · rw [if_pos c6]
    exact one 182 3735208 0 0 (by omega) c6 (by omega) (fun z => by rw [z]; decide) fun j j0 j1 dj => by
      rcases cases6 j j0 j1 with z | z | z | z | z | z <;> subst z <;> omega
  rw [if_neg c6, e149]
  refine jS_end ⟨(rn fun j j0 j1 hl => ?_).symm, e2, e3⟩
  have ej : hs (cS j) = q.2 := by rw [← hl, e1]
  rcases cases6 j j0 j1 with z | z | z | z | z | z <;> subst z <;> omega
end jClex3
