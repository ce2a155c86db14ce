/-! the component reads words: bytes, what is skipped -/
section jClex
variable {s t u w : jS} {R x b a n p q r k c f v y P Q lo : Int} {g : Int → Int} {S S' : Int → Prop} {l m : List Int}
theorem c_isDg : m_X11_isDigit s c = some (cif (isDg c) 1 0) := by
  rw [e_X11_isDigit]; unfold isDg
  by_cases h : 48 ≤ c ∧ c ≤ 57
  · rw [cif_pos h, if_pos (by omega)]
  · rw [cif_neg h, if_neg (by omega)]
theorem c_isLt : m_X11_isLetter s c = some (cif ((97 ≤ c ∧ c ≤ 122) ∨ (65 ≤ c ∧ c ≤ 90)) 1 0) := by
  rw [em_X11_isLetter]; unfold dm_X11_isLetter
  simp only [em_X11_isLetter, dm_X11_isLetter, eu_X11_isLetter_12, du_X11_isLetter_12, Wz_0, Wz_1]
  by_cases h1 : c < 97
  · rw [if_pos h1]
    by_cases h2 : c < 65
    · rw [if_pos h2, cif_neg (by omega)]
    · rw [if_neg h2]
      by_cases h3 : 90 < c
      · rw [if_pos h3, cif_neg (by omega)]
      · rw [if_neg h3, cif_pos (by omega)]
  · rw [if_neg h1]
    by_cases h2 : 122 < c
    · rw [if_pos h2, if_neg (by omega), if_pos (by omega), cif_neg (by omega)]
    · rw [if_neg h2, cif_pos (by omega)]
theorem c_isBg : m_X11_isBegin s c = some (cif (isBg c) 1 0) := by
  rw [em_X11_isBegin]; unfold dm_X11_isBegin
  rw [c_isLt, Option.bind_some]
  by_cases h : (97 ≤ c ∧ c ≤ 122) ∨ (65 ≤ c ∧ c ≤ 90)
  · rw [cif_pos h, if_neg (by decide), Wz_1, cif_pos (by unfold isBg; omega)]
  · rw [cif_neg h, if_pos rfl, Wz_0, Wz_1]
    by_cases h1 : c = 95
    · rw [if_pos h1, cif_pos (by unfold isBg; omega)]
    · rw [if_neg h1]
      by_cases h2 : c = 46
      · rw [if_pos h2, cif_pos (by unfold isBg; omega)]
      · rw [if_neg h2, cif_neg (by unfold isBg; omega)]
theorem c_isIn : m_X11_isInside s c = some (cif (isIn c) 1 0) := by
  rw [em_X11_isInside]; unfold dm_X11_isInside
  rw [c_isBg, Option.bind_some]
  by_cases h : isBg c
  · rw [cif_pos h, if_neg (by decide), Wz_1, cif_pos (.inl h)]
  · rw [cif_neg h, if_pos rfl, c_isDg, Option.bind_some]
    by_cases h1 : isDg c
    · rw [cif_pos h1, if_neg (by decide), Wz_1, cif_pos (.inr (.inl h1))]
    · rw [cif_neg h1, if_pos rfl, Wz_0, Wz_1]
      by_cases h2 : c = 36
      · rw [if_pos h2, cif_pos (.inr (.inr h2))]
      · rw [if_neg h2, cif_neg (fun z => z.elim h fun z => z.elim h1 h2)]
theorem c_hx (h0 : -1 ≤ c) (h1 : c < 256) : m_X11_hexOf s c = some (hxO c) := by
  rw [em_X11_hexOf]; unfold dm_X11_hexOf
  rw [c_isDg, Option.bind_some]; unfold hxO
  by_cases h : 48 ≤ c ∧ c ≤ 57
  · rw [cif_pos (show isDg c from h), if_neg (by decide), if_pos h, W32_in (by omega) (by omega)]
  · rw [cif_neg (show ¬ isDg c from h), if_pos rfl, if_neg h]
    simp only [em_X11_hexOf, dm_X11_hexOf, eu_X11_hexOf_36, du_X11_hexOf_36]
    by_cases h2 : c < 97
    · rw [if_pos h2, if_neg (show ¬ (97 ≤ c ∧ c ≤ 102) by omega)]
      by_cases h3 : c < 65
      · rw [if_pos h3, if_neg (by omega)]
      · rw [if_neg h3]
        by_cases h4 : 70 < c
        · rw [if_pos h4, if_neg (by omega)]
        · rw [if_neg h4, if_pos (by omega), W32_in (z := c - 65) (by omega) (by omega), W32_in (by omega) (by omega)]; congr 1; omega
    · rw [if_neg h2]
      by_cases h3 : 102 < c
      · rw [if_pos h3, if_neg (show ¬ c < 65 by omega), if_pos (show 70 < c by omega), if_neg (by omega), if_neg (by omega)]
      · rw [if_neg h3, if_pos (by omega), W32_in (z := c - 97) (by omega) (by omega), W32_in (by omega) (by omega)]; congr 1; omega
/-- slots of the reader alone -/
def rSl (s u : jS) (R : Int) (S : Int → Prop) : Prop := jSm s u ∧ ∀ c a k, ¬ (c = 53 ∧ a = R ∧ S k) → jf u c a k = jf s c a k
theorem rSl.rfl : rSl s s R S := ⟨jSm.rfl, fun _ _ _ _ => Eq.refl _⟩
theorem rSl.trans (h : rSl s t R S) (k : rSl t u R S) : rSl s u R S := ⟨jSm.trans h.1 k.1, fun c a j z => (k.2 c a j z).trans (h.2 c a j z)⟩
theorem rSl.jp (h : rSl s u R S) (hk : S k) : rSl s (jp u 53 R k v) R S := ⟨h.1.jp, fun c a j z => by rw [jf_neg (fun q => z ⟨q.1, q.2.1, by rw [q.2.2]; exact hk⟩)]; exact h.2 c a j z⟩
theorem rSl.mono (h : rSl s u R S) (e : ∀ k, S k → S' k) : rSl s u R S' := ⟨h.1, fun c a j z => h.2 c a j fun q => z ⟨q.1, q.2.1, e _ q.2.2⟩⟩
theorem rSl.gw (h : rSl s u R S) : jGw s u 0 0 (fun y => y = R) := by
  obtain ⟨⟨h1, h2, h3, h4, h5, h6, h7⟩, h8⟩ := h
  exact ⟨⟨by omega, by omega, by omega, h5, h6, h7⟩, fun a _ => ⟨by rw [h1], by rw [h2]⟩, fun c a k _ z => h8 c a k fun q => z q.2.1⟩
/-- a reader: what it reads, its book, its row -/
def rdI (u : jS) (R x b a : Int) (g : Int → Int) (n : Int) : Prop := (0 ≤ R ∧ R < jn u ∧ jK u R = 53) ∧ jf u 53 R 0 = a ∧ jf u 53 R 1 = n ∧ jf u 53 R 10 = b ∧ jf u 53 R 11 = x ∧ (0 ≤ a ∧ a < jn u ∧ jK u a = 1001 ∧ jN u a = 3000) ∧ (∀ k, 0 ≤ k → k < n → jf u 1001 a k = sb (g k)) ∧ (byG g n ∧ 0 ≤ n ∧ n ≤ 640) ∧ (∃ l, pSb u x l 640) ∧ ¬ jf u 8 x 0 = a ∧ pCon u
theorem rdI.tt (h : rdI u R x b a g n) : jTt u 69 R := (jTt_pl rfl rfl).mpr ⟨h.1.1, h.1.2.1, h.1.2.2, fun q => absurd q (by decide)⟩
theorem rdI.sl (h : rdI s R x b a g n) (k : rSl s u R S) (e : ¬ S 0 ∧ ¬ S 1 ∧ ¬ S 10 ∧ ¬ S 11) : rdI u R x b a g n := by
  obtain ⟨⟨h1, h2, h3⟩, h4, h5, h6, h7, ⟨h8, h9, h10, h11⟩, h12, h13, ⟨l, hl⟩, h15, h16⟩ := h
  have K : jK u = jK s := k.1.1
  have N : jN u = jN s := k.1.2.1
  have nn : jn u = jn s := k.1.2.2.1
  have hk := k.gw
  obtain ⟨p1, p2⟩ := hl.keep hk (fun z => by have := hl.1.2.2; have z' : x = R := z; rw [z'] at this; omega) (fun z => by have := hl.2.2.2.1.2.2; have z' : jf s 8 x 0 = R := z; rw [z'] at this; omega)
  exact ⟨⟨h1, by omega, by rw [K]; exact h3⟩, by rw [k.2 _ _ _ (fun z => e.1 z.2.2)]; exact h4, by rw [k.2 _ _ _ (fun z => e.2.1 z.2.2)]; exact h5, by rw [k.2 _ _ _ (fun z => e.2.2.1 z.2.2)]; exact h6, by rw [k.2 _ _ _ (fun z => e.2.2.2 z.2.2)]; exact h7, ⟨h8, by omega, by rw [K]; exact h10, by rw [N]; exact h11⟩, fun j j0 j1 => by rw [k.2 _ _ _ (by omega)]; exact h12 j j0 j1, h13, ⟨l, p1⟩, by rw [p2]; exact h15, h16.keep hk fun a z => by have z' : a = R := z; rw [z']; omega⟩
theorem c_bt (h : rdI u R x b a g n) (k0 : 0 ≤ k) : m_X44_byteAt u R k = some (bt g n k) := by
  obtain ⟨h1, h4, h5, h6, h7, ⟨h8, h9, h10, h11⟩, h12, ⟨h13, h14, h15⟩, -⟩ := h
  rw [em_X44_byteAt]; unfold dm_X44_byteAt
  rw [h5, h4]; unfold bt
  by_cases c : k < n
  · rw [if_pos c, show jld u 1001 a k = some (jf u 1001 a k) by unfold jld; exact if_pos ⟨h8, h10, k0, by omega⟩, Option.bind_some, h12 k k0 c, sb_and (h13 k k0 c).1 (h13 k k0 c).2, if_pos c]
  · rw [if_neg c, if_neg c]
/-- a fault is thrown -/
def rWr (u : jS) (R f p : Int) : jS := jmk (jp (jp u 53 R 12 f) 53 R 13 p) 2054 0 (fun _ => 0) 6
theorem c_wr (h : 0 ≤ jn u ∧ jBd u 1 6) : m_X44_wrong u R f p = some (rWr u R f p, jn u) := by
  obtain ⟨n0, b1, b2⟩ := h
  rw [em_X44_wrong]; unfold dm_X44_wrong
  simp only [jls]
  have hx : jnx (jp (jp u 53 R 12 f) 53 R 13 p) 2054 = some (rWr u R f p, jn u) := by
    unfold jnx; exact if_pos ⟨n0, b1, b2⟩
  rw [hx, Option.bind_some]
theorem c_thr (h : 0 ≤ jn u ∧ jBd u 1 6) : ((m_X44_wrong u R f p).bind fun q => jck0 q.2 (some (q.1, true, q.2))) = some (rWr u R f p, true, jn u) := by
  rw [c_wr h, Option.bind_some, jck0_in h.1]
/-- what a fault leaves -/
def rFl (R f p : Int) (q : jS × Bool × Int) : Prop := q.2.1 = true ∧ (0 ≤ q.2.2 ∧ jK q.1 q.2.2 = 2054) ∧ jf q.1 53 R 12 = f ∧ jf q.1 53 R 13 = p
theorem rWr.fl (h0 : 0 ≤ jn u) : rFl R f p (rWr u R f p, true, jn u) := by
  refine ⟨rfl, ⟨h0, ?_⟩, ?_, ?_⟩
  · show (if jn u = jn u then (2054 : Int) else _) = _
    rw [if_pos rfl]
  · show (if (53 : Int) = 2054 ∧ R = jn u then (0 : Int) else jf (jp (jp u 53 R 12 f) 53 R 13 p) 53 R 12) = f
    rw [if_neg (by omega)]; (repeat (first | rw [jf_neg (by omega)] | rw [jf_pos (by omega)] | rw [ou_neg (by omega)] | rw [ou_pos (by omega)]))
  · show (if (53 : Int) = 2054 ∧ R = jn u then (0 : Int) else jf (jp (jp u 53 R 12 f) 53 R 13 p) 53 R 13) = p
    rw [if_neg (by omega)]; (repeat (first | rw [jf_neg (by omega)] | rw [jf_pos (by omega)] | rw [ou_neg (by omega)] | rw [ou_pos (by omega)]))
theorem rWr.gw : jGw u (rWr u R f p) 1 6 (fun y => y = R) := (((jGw.rfl (A := fun y => y = R)).jp (.inl rfl)).jp (.inl rfl)).mk.mono (by omega) (by omega) fun a _ z => z
/-- what the reader and its row are -/
def rdA (u : jS) (R x : Int) : Int → Prop := fun y => y = R ∨ y = x ∨ y = jf u 8 x 0
/-- blanks and remarks are skipped -/
theorem c_skip (h : rdI u R x b a g n) (hp : jf u 53 R 2 = p) (p0 : 0 ≤ p) (p1 : p ≤ n) (hB : 0 ≤ jn u ∧ jBd u 1 6) : jE (m_X44_skip u R) fun q =>
    ∃ r, p ≤ r ∧ r ≤ n ∧ ((bt g n (up g n spP p) = 35 ∧ ¬ (bt g n (up g n cmP (up g n spP p)) = 10 ∨ bt g n (up g n cmP (up g n spP p)) = -1) ∧ r = up g n cmP (up g n spP p) ∧ rFl R 1 r q ∧ jGw u q.1 1 6 (fun y => y = R)) ∨
    (r = (if bt g n (up g n spP p) = 35 then up g n cmP (up g n spP p) else up g n spP p)) ∧ (bt g n (up g n spP p) = 35 → bt g n r = 10 ∨ bt g n r = -1) ∧ q.2 = (false, 0) ∧ rSl u q.1 R (fun k => k = 2) ∧ jf q.1 53 R 2 = r) := by
  obtain ⟨n0, n1⟩ : 0 ≤ n ∧ n ≤ 640 := h.2.2.2.2.2.2.2.1.2
  obtain ⟨⟨s1, s2, s3⟩, s4⟩ := up_to (g := g) (n := n) (P := spP) (by unfold spP; omega) p1
  generalize up g n spP p = q0 at *
  rw [em_X44_skip]; unfold dm_X44_skip
  rw [eu_X44_skip_0]; unfold du_X44_skip_0
  refine jS_for (fun k w => rSl u w R (fun k => k = 2) ∧ jf w 53 R 2 = k) (fun _ => [R]) p q0 s1 ⟨rSl.rfl, hp⟩ (fun k w k0 k1 ⟨e1, e2⟩ => ?_) (fun w ⟨e1, e2⟩ => ?_)
  · show jE (b_X44_skip_0 w R) _
    unfold b_X44_skip_0
    have hw := h.sl e1 (by omega)
    have ek : u_X44_skip_26 w R = some (.inl (jp w 53 R 2 (k + 1), [R])) := by
      rw [eu_X44_skip_26]; unfold du_X44_skip_26
      simp only [jls]
      rw [e2, W32_in (by omega) (by omega)]
    rw [e2, c_bt hw (by omega), Option.bind_some, Option.bind_some, ek]
    have hP := s2 k k0 k1
    unfold spP at hP
    by_cases c : bt g n k = 32
    · rw [if_pos c]; exact jS_end ⟨rfl, e1.jp rfl, jf_pos ⟨rfl, rfl, rfl⟩⟩
    · rw [if_neg c, if_pos (by omega)]; exact jS_end ⟨rfl, e1.jp rfl, jf_pos ⟨rfl, rfl, rfl⟩⟩
  show jE (b_X44_skip_0 w R) _
  unfold b_X44_skip_0
  have hw := h.sl e1 (by omega)
  unfold spP at s3
  rw [e2, c_bt hw (by omega), Option.bind_some, Option.bind_some, if_neg (by omega), if_neg (by omega)]
  refine jS_inr ?_
  rw [eu_X44_skip_39]; unfold du_X44_skip_39
  rw [e2, c_bt hw (by omega), Option.bind_some]
  by_cases c : bt g n q0 = 35
  rotate_left
  · rw [if_neg c]
    exact jS_end ⟨q0, s1, s4, .inr ⟨by rw [if_neg c], fun z => absurd z c, rfl, e1, e2⟩⟩
  rw [if_pos c, eu_X44_skip_53]; unfold du_X44_skip_53
  obtain ⟨⟨c1, c2, c3⟩, c4⟩ := up_to (g := g) (n := n) (P := cmP) (p := q0) (by unfold cmP; omega) s4
  generalize up g n cmP q0 = q1 at *
  refine jS_for (fun k w => rSl u w R (fun k => k = 2) ∧ jf w 53 R 2 = k) (fun _ => [R]) q0 q1 c1 ⟨e1, e2⟩ (fun k w k0 k1 ⟨e1, e2⟩ => ?_) (fun w ⟨e1, e2⟩ => ?_)
  · show jE (b_X44_skip_53 w R) _
    unfold b_X44_skip_53
    have hw := h.sl e1 (by omega)
    have ek : u_X44_skip_127 w R = some (.inl (jp w 53 R 2 (k + 1), [R])) := by
      rw [eu_X44_skip_127]; unfold du_X44_skip_127
      simp only [jls]
      rw [e2, W32_in (by omega) (by omega)]
    have hP := c2 k k0 k1
    unfold cmP at hP
    rw [e2, c_bt hw (by omega), Option.bind_some, if_neg (by omega), Option.bind_some, if_neg (by omega), Option.bind_some, Option.bind_some, Option.bind_some, ek]
    by_cases d : bt g n k = 9
    · rw [if_pos d]; exact jS_end ⟨rfl, e1.jp rfl, jf_pos ⟨rfl, rfl, rfl⟩⟩
    · rw [if_neg d, if_neg (by omega), if_neg (by omega)]; exact jS_end ⟨rfl, e1.jp rfl, jf_pos ⟨rfl, rfl, rfl⟩⟩
  show jE (b_X44_skip_53 w R) _
  unfold b_X44_skip_53
  have hw := h.sl e1 (by omega)
  rw [e2, c_bt hw (by omega), Option.bind_some, Option.bind_some, Option.bind_some, Option.bind_some, Option.bind_some]
  unfold cmP at c3
  by_cases d1 : bt g n q1 = 10
  · rw [if_pos d1]
    exact jS_inr (jS_end ⟨q1, by omega, c4, .inr ⟨by rw [if_pos c], fun _ => .inl d1, rfl, e1, e2⟩⟩)
  by_cases d2 : bt g n q1 = -1
  · rw [if_neg d1, if_pos d2]
    exact jS_inr (jS_end ⟨q1, by omega, c4, .inr ⟨by rw [if_pos c], fun _ => .inr d2, rfl, e1, e2⟩⟩)
  have hBw : 0 ≤ jn w ∧ jBd w 1 6 := ⟨by rw [e1.1.2.2.1]; exact hB.1, hB.2.gw (p := 0) (q := 0) (by have := e1.gw; exact this)⟩
  have e117 : u_X44_skip_117 w R = some (rWr w R 1 q1, true, jn w) := by
    rw [eu_X44_skip_117]; unfold du_X44_skip_117
    rw [c_thr hBw, e2]
  have fin : ∃ r, p ≤ r ∧ r ≤ n ∧ ((bt g n q0 = 35 ∧ ¬ (bt g n q1 = 10 ∨ bt g n q1 = -1) ∧ r = q1 ∧ rFl R 1 r (rWr w R 1 q1, true, jn w) ∧ jGw u (rWr w R 1 q1) 1 6 (fun y => y = R)) ∨ (r = (if bt g n q0 = 35 then q1 else q0)) ∧ (bt g n q0 = 35 → bt g n r = 10 ∨ bt g n r = -1) ∧ ((true, jn w) : Bool × Int) = (false, 0) ∧ rSl u (rWr w R 1 q1) R (fun k => k = 2) ∧ jf (rWr w R 1 q1) 53 R 2 = r) :=
    ⟨q1, by omega, c4, .inl ⟨c, by omega, rfl, rWr.fl hBw.1, (e1.gw.trans rWr.gw fun a _ z => z.elim id id).mono (by omega) (by omega) fun a _ z => z⟩⟩
  rw [if_neg d1, if_neg d2, if_neg (show ¬ bt g n q1 = 9 by omega), e117]
  by_cases d3 : bt g n q1 < 32
  · rw [if_pos d3]; exact jS_inr (jS_end fin)
  · rw [if_neg d3, if_pos (show 126 < bt g n q1 by omega)]; exact jS_inr (jS_end fin)
end jClex
