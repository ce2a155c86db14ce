/-! the twin reads a file of an image: the last faults, all of it -/
section jSread5
variable {s t u w : jS} {X n p f a b x y e k v z : Int} {g g' : Int → Int} {L : List (Prop × Int × Int)} {c : Prop} {F F' : Int → Int} {i : Int → Int → Int → Int}
theorem s_last (h : sX s u X g n) (G : sG g) (hz : nP g + nZ g ≤ n) : jE (m_X42_lastFaults u X) (ckR (tOK fun t => sX s t X g n) (sBD s X) (J29 g)) := by
  obtain ⟨g1, g2, g3, g4, g5, g6, g7, g8, g9⟩ := id G
  have hn := h.1.n8
  have h52 := h.2.2.2.1.1
  rw [em_X42_lastFaults]; unfold dm_X42_lastFaults J29
  rw [h.rw (by omega) (by omega), Option.bind_some, h.nu g5 (by omega) (by omega), Option.bind_some, show it g (jw' g 3) 1 = nP g from rfl]
  simp only [jlet]
  rw [l2i_p, W32_in (z := nP g) (by omega) (by omega), W32_in (z := nP g + 24) (by omega) (by omega), s_r4 h.C (by omega) (by omega), Option.bind_some]
  refine jS_call (s_sumIn h G hz) fun q ⟨q1, v, q2⟩ => ?_
  have H := h.su q2
  have hr := H.2.1.1
  rw [q1, l2i_p]
  generalize q.1 = t1 at H hr ⊢
  refine tk_if Iff.rfl (s_fault hr (by omega)) fun _ => ?_
  rw [eu_X42_lastFaults_44]; unfold du_X42_lastFaults_44
  have hcn := fun k k0 => cn_lo (P := fun k => decide (¬ mkG g k = 0) && shI (iR g) k) (x := k) k0
  have := jforW (C := jc3 b_X42_lastFaults_44) (fun k => [X, if 0 < cn (fun k => decide (¬ mkG g k = 0) && shI (iR g) k) k then 1 else 0, 2 * k]) (fun _ => t1) 0 (nT g / 2) (by omega) (fun k k0 k1 => by
      show b_X42_lastFaults_44 t1 X _ (2 * k) = _
      unfold b_X42_lastFaults_44
      have hs := cn_s (P := fun k => decide (¬ mkG g k = 0) && shI (iR g) k) (x := k) k0
      have hl := hcn k k0
      have e86 : ∀ y, u_X42_lastFaults_86 t1 X (2 * k) y = some (.inl (t1, [X, y, 2 * (k + 1)])) := fun y => by
        rw [eu_X42_lastFaults_86]; unfold du_X42_lastFaults_86
        rw [W32_in (by omega) (by omega), show 2 * k + 2 = 2 * (k + 1) by omega]
      have e81 : u_X42_lastFaults_81 t1 X (2 * k) = some (.inl (t1, [X, 1, 2 * (k + 1)])) := by rw [eu_X42_lastFaults_81]; unfold du_X42_lastFaults_81; exact e86 1
      have e85 : u_X42_lastFaults_85 t1 X (2 * k) = some (.inl (t1, [X, 0, 2 * (k + 1)])) := by rw [eu_X42_lastFaults_85]; unfold du_X42_lastFaults_85; exact e86 0
      rw [H.rw (by omega) (by omega), Option.bind_some, H.nu g1 (by omega) (by omega), Option.bind_some, show it g (jw' g 0) 4 = nT g from rfl, if_pos ((L_cmp_lt _ _).mpr (by omega)), e81, e85, hs, s_isMark H G hz k0 (by omega), Option.bind_some, s_isShort H G k0 (by omega), Option.bind_some]
      by_cases c1 : 0 < cn (fun k => decide (¬ mkG g k = 0) && shI (iR g) k) k
      · rw [if_pos c1, if_neg (by decide), if_pos (by split <;> omega)]
      · rw [if_neg c1, if_pos rfl]
        have m01 := mkG_01 (g := g) k
        by_cases c2 : mkG g k = 1
        · rw [if_pos c2, if_neg (by decide)]
          by_cases c3 : shI (iR g) k = true
          · rw [if_pos c3, if_neg (by decide), if_pos (show 0 < cn (fun k => decide (¬ mkG g k = 0) && shI (iR g) k) k + _ by rw [if_pos (by simp [c2, c3])]; omega)]
          · rw [if_neg c3, if_pos rfl, if_neg (show ¬ 0 < cn (fun k => decide (¬ mkG g k = 0) && shI (iR g) k) k + _ by rw [if_neg (by simp [c2, c3])]; omega)]
        · have c2' : mkG g k = 0 := by omega
          rw [if_neg c2, if_pos rfl, if_neg (show ¬ 0 < cn (fun k => decide (¬ mkG g k = 0) && shI (iR g) k) k + _ by rw [if_neg (by simp [c2'])]; omega)]) (r := u_X42_lastFaults_93 t1 X (if 0 < cn (fun k => decide (¬ mkG g k = 0) && shI (iR g) k) (nT g / 2) then 1 else 0)) (by
      show b_X42_lastFaults_44 t1 X _ (2 * (nT g / 2)) = _
      unfold b_X42_lastFaults_44
      rw [H.rw (by omega) (by omega), Option.bind_some, H.nu g1 (by omega) (by omega), Option.bind_some, show it g (jw' g 0) 4 = nT g from rfl, if_neg (fun q => by have := (L_cmp_lt _ _).mp q; omega)])
  rw [show (if 0 < cn (fun k => decide (¬ mkG g k = 0) && shI (iR g) k) 0 then (1 : Int) else 0) = 0 from rfl, show 2 * (0 : Int) = 0 from rfl] at this
  rw [this, eu_X42_lastFaults_93]; unfold du_X42_lastFaults_93
  rw [s_r4 H.C (by omega) (by omega), Option.bind_some]
  have hl := hcn (nT g / 2) (by omega)
  have e1 : ∀ z : Int, (z = 0 ∨ z = 1) → (if L_cmp (r4 g 36) 1 = 0 then u_X42_lastFaults_109 t1 X z 1 else u_X42_lastFaults_109 t1 X z 0) = if (r4 g 36 = 1 ↔ z = 1) then some (t1, 0) else (m_X42_fault t1 X 30 36).bind fun q => some (q.1, q.2) := fun z hz => by
    simp only [eu_X42_lastFaults_109, du_X42_lastFaults_109, L_cmp_0]
    rcases hz with rfl | rfl <;> by_cases c1 : r4 g 36 = 1 <;> simp only [c1, eq_self, and_false, false_and, and_true, true_and, if_true, if_false, reduceIte, Int.reduceEq, Int.reduceLT, Int.reduceLE, Int.reduceNeg, not_false_eq_true, Option.bind_some, jls, iff_true, iff_false, true_iff, false_iff, not_true_eq_false] <;> rfl
  rw [e1 _ (by split; exact .inr rfl; exact .inl rfl)]
  refine tk_if ?_ (s_fault hr (by omega)) fun _ => jk_end (jS_end ⟨rfl, H⟩)
  by_cases c2 : 0 < cn (fun k => decide (¬ mkG g k = 0) && shI (iR g) k) (nT g / 2)
  · rw [if_pos c2]; exact ⟨fun z => ⟨fun _ => c2, fun _ => z.mpr rfl⟩, fun z => ⟨fun _ => rfl, fun _ => z.mpr c2⟩⟩
  · rw [if_neg c2]; exact ⟨fun z => ⟨fun q => absurd (z.mp q) (by decide), fun q => absurd q c2⟩, fun z => ⟨fun q => absurd (z.mp q) c2, fun q => absurd q (by decide)⟩⟩
/-- an image in the twin's rows -/
def tSg (t : jS) (X r : Int) (i : Int → Int → Int → Int) (x : Int) : Prop := jf t 1002 (X + 1) (3 * r + x) = i 1 x 0 ∧ (¬ i 1 x 0 = 0 → jf t 1000 (X + 2) (3 * r + x) = i 1 x 1 ∧ jf t 1000 (X + 4) (3 * r + x) = i 1 x 2 ∧ jf t 1000 (X + 3) (3 * r + x) = i 1 x 3 ∧ ∀ k, 0 ≤ k → k < i 1 x 2 → jf t 1000 (X + 5) (4096 * (3 * r + x) + k) = i 0 x k)
def tIm (t : jS) (X r : Int) (i : Int → Int → Int → Int) : Prop := (∀ x, 0 ≤ x → x < 3 → tSg t X r i x) ∧ jf t 1000 (X + 7) r = i 2 0 0 ∧ jf t 1000 (X + 8) r = i 2 1 0 ∧ ∀ k, 0 ≤ k → k < 2048 → jf t 1002 (X + 6) (2048 * r + k) = i 3 k 0
/-- the second image's places -/
def sRw (s t : jS) (X : Int) : Prop := jSm s t ∧ ∀ c a k, ¬ ((c = 1002 ∧ a = X + 1 ∧ 3 ≤ k) ∨ (c = 1000 ∧ X + 2 ≤ a ∧ a ≤ X + 4 ∧ 3 ≤ k) ∨ (c = 1000 ∧ a = X + 5 ∧ 12288 ≤ k) ∨ (c = 1002 ∧ a = X + 6 ∧ 2048 ≤ k) ∨ (c = 1000 ∧ (a = X + 7 ∨ a = X + 8) ∧ 1 ≤ k)) → jf t c a k = jf s c a k
theorem sRw.rfl : sRw s s X := ⟨jSm.rfl, fun _ _ _ _ => Eq.refl _⟩
theorem sRw.jp {c a k v : Int} (h : sRw s t X) (e : (c = 1002 ∧ a = X + 1 ∧ 3 ≤ k) ∨ (c = 1000 ∧ X + 2 ≤ a ∧ a ≤ X + 4 ∧ 3 ≤ k) ∨ (c = 1000 ∧ a = X + 5 ∧ 12288 ≤ k) ∨ (c = 1002 ∧ a = X + 6 ∧ 2048 ≤ k) ∨ (c = 1000 ∧ (a = X + 7 ∨ a = X + 8) ∧ 1 ≤ k)) : sRw s (jp t c a k v) X := ⟨h.1.jp, fun c' a' k' p => by rw [jf_jp, if_neg (by omega)]; exact h.2 c' a' k' p⟩
def sY (u : jS) (X : Int) (g : Int → Int) (n : Int) : Prop := sX u u X g n
theorem sX.ys (h : sX s u X g n) : sY u X g n := ⟨h.C, ⟨sRd.rfl, h.2.1.2⟩, h.2.2⟩
theorem sY.wr (h : sY u X g n) (k : sRw u t X) : sY t X g n := by
  have h1 : sC t X g n := ⟨fun i i0 i1 => (k.2 _ _ _ (by omega)).trans (h.1.1 i i0 i1), h.1.2.1, h.1.2.2.1, h.1.2.2.2.1, (k.2 _ _ _ (by omega)).trans h.1.2.2.2.2⟩
  exact ⟨h1, ⟨sRd.rfl, (k.2 _ _ _ (by omega)).trans h.2.1.2.1, (k.2 _ _ _ (by omega)).trans h.2.1.2.2⟩, fun x x0 x1 => (k.2 _ _ _ (by omega)).trans (h.2.2.1 x x0 x1), h.2.2.2⟩
theorem s_copy (h : sY u X g n) (G : sG g) (hz : nP g + nZ g ≤ n) {Q : jS × Int → Prop} (cont : ∀ t, sRw u t X → tIm t X 1 (iR g) → Q (t, 0)) (he : jf u 1000 (X + 7) 1 = W32 (r4 g 24)) (hp : jf u 1000 (X + 8) 1 = 1) : jE (u_X42_read_123 u X 0) Q := by
  obtain ⟨g1, g2, g3, g4, g5, g6, g7, g8, g9⟩ := id G
  have hd := h.2.2.2.1
  have hr := h.2.2.2.2
  have hb := h.1.2.1
  have hn := h.1.n8
  rw [eu_X42_read_123]; unfold du_X42_read_123
  refine jS_for (fun x t => sRw u t X ∧ jf t 1000 (X + 7) 1 = W32 (r4 g 24) ∧ jf t 1000 (X + 8) 1 = pgI g x ∧ ∀ y, 0 ≤ y → y < x → tSg t X 1 (iR g) y) (fun x => [X, x]) 0 3 (by omega) ⟨sRw.rfl, he, hp, fun y y0 y1 => by omega⟩ (fun x t x0 x1 ⟨e1, e2, e3, e4⟩ => ?_) (fun t ⟨e1, e2, e3, e4⟩ => ?_)
  · show jE (b_X42_read_123 t X x) _
    unfold b_X42_read_123
    have H := h.wr e1
    have e306 : ∀ t, u_X42_read_306 t X x = some (.inl (t, [X, x + 1])) := fun t => by
      rw [eu_X42_read_306]; unfold du_X42_read_306
      rw [W32_in (by omega) (by omega)]
    have pl := pgI_lo hd hr hb hn x0 (show x ≤ 3 by omega)
    have q0 : iR g 1 x 0 = if jw' g x = -1 then 0 else 1 := rfl
    have old : ∀ w, (∀ c a k, ¬ ((c = 1002 ∧ a = X + 1 ∧ k = 3 + x) ∨ (c = 1000 ∧ X + 2 ≤ a ∧ a ≤ X + 4 ∧ k = 3 + x) ∨ (c = 1000 ∧ a = X + 5 ∧ 4096 * (3 + x) ≤ k) ∨ (c = 1000 ∧ a = X + 8 ∧ k = 1)) → jf w c a k = jf t c a k) → ∀ y, 0 ≤ y → y < x → tSg w X 1 (iR g) y := fun w hw y y0 y1 => by
      obtain ⟨f1, f2⟩ := e4 y y0 y1
      refine ⟨by rw [hw _ _ _ (by omega)]; exact f1, fun q => ?_⟩
      obtain ⟨f3, f4, f5, f6⟩ := f2 q
      have c : ¬ jw' g y = -1 := fun z => q (by rw [show iR g 1 y 0 = if jw' g y = -1 then 0 else 1 from rfl, if_pos z])
      have sz := (jw_seg hd hr hb hn y0 (show y < 3 by omega) c).2.2.2.2.2.2.1
      have : iR g 1 y 2 = it g (jw' g y) 4 := rfl
      exact ⟨by rw [hw _ _ _ (by omega)]; exact f3, by rw [hw _ _ _ (by omega)]; exact f4, by rw [hw _ _ _ (by omega)]; exact f5, fun k k0 k1 => by rw [hw _ _ _ (by omega)]; exact f6 k k0 k1⟩
    rw [if_pos x1, H.rw x0 (by omega), Option.bind_some, W32_in (z := 3 + x) (by omega) (by omega)]
    by_cases c : jw' g x = -1
    · rw [if_pos c, eu_X42_read_152]; unfold du_X42_read_152
      rw [jst_in (by omega) (by omega), Option.bind_some, Wz_0, if_pos c, e306]
      refine jS_end ⟨rfl, e1.jp (by omega), by (repeat (first | rw [jf_neg (by omega)] | rw [jf_pos (by omega)] | rw [ou_neg (by omega)] | rw [ou_pos (by omega)])); exact e2, by rw [pgI_s x0 x1, if_pos c, jmx_1 pl]; (repeat (first | rw [jf_neg (by omega)] | rw [jf_pos (by omega)] | rw [ou_neg (by omega)] | rw [ou_pos (by omega)])); exact e3, fun y y0 y1 => ?_⟩
      by_cases cy : y = x
      · subst cy
        exact ⟨by rw [jf_pos ⟨rfl, rfl, by omega⟩, q0, if_pos c], fun q => absurd (by rw [q0, if_pos c]) q⟩
      · exact old _ (fun c' a' k' hk => jf_neg (by omega)) y y0 (by omega)
    · obtain ⟨b1, b2, b3, b4, b5, b6, b7, b8, b9, b10⟩ := jw_seg hd hr hb hn x0 x1 c
      have lp := b3.lo
      rw [if_neg c, eu_X42_read_152]; unfold du_X42_read_152
      rw [jst_in (by omega) (by omega), Option.bind_some, Wz_1, if_neg c, W32_in (z := 3 + x) (by omega) (by omega)]
      have k1 : sRw u (jp t 1002 (X + 1) (3 + x) 1) X := e1.jp (by omega)
      rw [(h.wr k1).nu c (by omega) (by omega), Option.bind_some, l2i_p, W32_in (z := it g (jw' g x) 2) (by omega) (by omega), jst_in (by omega) (by omega), Option.bind_some]
      have k2 : sRw u (jp (jp t 1002 (X + 1) (3 + x) 1) 1000 (X + 2) (3 + x) (it g (jw' g x) 2)) X := k1.jp (by omega)
      rw [(h.wr k2).nu c (by omega) (by omega), Option.bind_some, l2i_p, W32_in (z := it g (jw' g x) 4) (by omega) (by omega), jst_in (by omega) (by omega), Option.bind_some]
      have k3 : sRw u (jp (jp (jp t 1002 (X + 1) (3 + x) 1) 1000 (X + 2) (3 + x) (it g (jw' g x) 2)) 1000 (X + 4) (3 + x) (it g (jw' g x) 4)) X := k2.jp (by omega)
      rw [(h.wr k3).nu c (by omega) (by omega), Option.bind_some, (h.wr k3).nu c (by omega) (by omega), Option.bind_some, l2i_p, W64_in (by omega) (by omega), W32_in (z := it g (jw' g x) 5 - it g (jw' g x) 4) (by omega) (by omega), jst_in (by omega) (by omega), Option.bind_some]
      have k4 : sRw u (jp (jp (jp (jp t 1002 (X + 1) (3 + x) 1) 1000 (X + 2) (3 + x) (it g (jw' g x) 2)) 1000 (X + 4) (3 + x) (it g (jw' g x) 4)) 1000 (X + 3) (3 + x) (it g (jw' g x) 5 - it g (jw' g x) 4)) X := k3.jp (by omega)
      have a1 : jf (jp (jp (jp (jp t 1002 (X + 1) (3 + x) 1) 1000 (X + 2) (3 + x) (it g (jw' g x) 2)) 1000 (X + 4) (3 + x) (it g (jw' g x) 4)) 1000 (X + 3) (3 + x) (it g (jw' g x) 5 - it g (jw' g x) 4)) 1002 (X + 1) (3 + x) = 1 := by (repeat (first | rw [jf_neg (by omega)] | rw [jf_pos (by omega)] | rw [ou_neg (by omega)] | rw [ou_pos (by omega)]))
      have a2 : jf (jp (jp (jp (jp t 1002 (X + 1) (3 + x) 1) 1000 (X + 2) (3 + x) (it g (jw' g x) 2)) 1000 (X + 4) (3 + x) (it g (jw' g x) 4)) 1000 (X + 3) (3 + x) (it g (jw' g x) 5 - it g (jw' g x) 4)) 1000 (X + 2) (3 + x) = it g (jw' g x) 2 := by (repeat (first | rw [jf_neg (by omega)] | rw [jf_pos (by omega)] | rw [ou_neg (by omega)] | rw [ou_pos (by omega)]))
      have a3 : jf (jp (jp (jp (jp t 1002 (X + 1) (3 + x) 1) 1000 (X + 2) (3 + x) (it g (jw' g x) 2)) 1000 (X + 4) (3 + x) (it g (jw' g x) 4)) 1000 (X + 3) (3 + x) (it g (jw' g x) 5 - it g (jw' g x) 4)) 1000 (X + 4) (3 + x) = it g (jw' g x) 4 := by (repeat (first | rw [jf_neg (by omega)] | rw [jf_pos (by omega)] | rw [ou_neg (by omega)] | rw [ou_pos (by omega)]))
      have a4 : jf (jp (jp (jp (jp t 1002 (X + 1) (3 + x) 1) 1000 (X + 2) (3 + x) (it g (jw' g x) 2)) 1000 (X + 4) (3 + x) (it g (jw' g x) 4)) 1000 (X + 3) (3 + x) (it g (jw' g x) 5 - it g (jw' g x) 4)) 1000 (X + 3) (3 + x) = it g (jw' g x) 5 - it g (jw' g x) 4 := by (repeat (first | rw [jf_neg (by omega)] | rw [jf_pos (by omega)] | rw [ou_neg (by omega)] | rw [ou_pos (by omega)]))
      have a5 : ∀ c a k, ¬ ((c = 1002 ∧ a = X + 1 ∧ k = 3 + x) ∨ (c = 1000 ∧ X + 2 ≤ a ∧ a ≤ X + 4 ∧ k = 3 + x)) → jf (jp (jp (jp (jp t 1002 (X + 1) (3 + x) 1) 1000 (X + 2) (3 + x) (it g (jw' g x) 2)) 1000 (X + 4) (3 + x) (it g (jw' g x) 4)) 1000 (X + 3) (3 + x) (it g (jw' g x) 5 - it g (jw' g x) 4)) c a k = jf t c a k := fun c a k hk => by rw [jf_neg (by omega), jf_neg (by omega), jf_neg (by omega), jf_neg (by omega)]
      generalize jp (jp (jp (jp t 1002 (X + 1) (3 + x) 1) 1000 (X + 2) (3 + x) (it g (jw' g x) 2)) 1000 (X + 4) (3 + x) (it g (jw' g x) 4)) 1000 (X + 3) (3 + x) (it g (jw' g x) 5 - it g (jw' g x) 4) = t1 at k4 a1 a2 a3 a4 a5 ⊢
      rw [eu_X42_read_216]; unfold du_X42_read_216
      refine jS_for (fun m w => sRw u w X ∧ (∀ k, 0 ≤ k → k < m → jf w 1000 (X + 5) (4096 * (3 + x) + k) = g (it g (jw' g x) 1 + k)) ∧ ∀ c a k, ¬ (c = 1000 ∧ a = X + 5 ∧ 4096 * (3 + x) ≤ k) → jf w c a k = jf t1 c a k) (fun m => [X, x, jw' g x, m]) 0 (it g (jw' g x) 4) b6 ⟨k4, fun k k0 k1 => by omega, fun _ _ _ _ => rfl⟩ (fun m w m0 m1 ⟨p1, p2, p3⟩ => ?_) (fun w ⟨p1, p2, p3⟩ => ?_)
      · show jE (b_X42_read_216 w X x (jw' g x) m) _
        unfold b_X42_read_216
        have H := h.wr p1
        rw [W32_in (z := 3 + x) (by omega) (by omega), jlt_in (by omega) (by omega), Option.bind_some, p3 _ _ _ (by omega), a3, if_pos m1, H.nu c (by omega) (by omega), Option.bind_some, l2i_p, W32_in (z := it g (jw' g x) 1) (by omega) (by omega), W32_in (z := it g (jw' g x) 1 + m) (by omega) (by omega), s_u1 H.C (by omega) (by omega), Option.bind_some, W32_in (z := 4096 * (3 + x)) (by omega) (by omega), W32_in (z := 4096 * (3 + x) + m) (by omega) (by omega), jst_in (by omega) (by omega), Option.bind_some, W32_in (by omega) (by omega)]
        refine jS_end ⟨rfl, p1.jp (by omega), fun k k0 k1 => ?_, fun c' a' k' hk => by rw [jf_neg (by omega)]; exact p3 c' a' k' hk⟩
        by_cases ck : k = m
        · rw [jf_pos ⟨rfl, rfl, by omega⟩, ck]
        · rw [jf_neg (by omega)]; exact p2 k k0 (by omega)
      · show jE (b_X42_read_216 w X x (jw' g x) (it g (jw' g x) 4)) _
        unfold b_X42_read_216
        have H := h.wr p1
        rw [W32_in (z := 3 + x) (by omega) (by omega), jlt_in (by omega) (by omega), Option.bind_some, p3 _ _ _ (by omega), a3, if_neg (by omega), eu_X42_read_265]; unfold du_X42_read_265
        rw [H.nu c (by omega) (by omega), Option.bind_some, jlt_in (by omega) (by omega), Option.bind_some, p3 _ _ _ (by omega), a5 _ _ _ (by omega), e3, Option.bind_some, l2i_p, W32_in (z := it g (jw' g x) 7) (by omega) (by omega), Option.bind_some]
        have e305 : ∀ v, u_X42_read_305 w X x v 1 (X + 8) = some (.inl (jp w 1000 (X + 8) 1 v, [X, x + 1])) := fun v => by
          rw [eu_X42_read_305]; unfold du_X42_read_305
          rw [jst_in (by omega) (by omega), Option.bind_some, e306]
        have em : (if 0 < L_cmp (it g (jw' g x) 7) (pgI g x) then u_X42_read_305 w X x (it g (jw' g x) 7) 1 (X + 8) else u_X42_read_305 w X x (pgI g x) 1 (X + 8)) = some (.inl (jp w 1000 (X + 8) 1 (pgI g (x + 1)), [X, x + 1])) := by
          rw [e305, e305, pgI_s x0 x1, if_neg c]
          unfold jmx
          simp only [L_cmp_gt]
          by_cases cq : pgI g x < it g (jw' g x) 7
          · rw [if_pos cq, if_pos cq]
          · rw [if_neg cq, if_neg cq]
        rw [em]
        refine jS_inr (jS_end ⟨rfl, p1.jp (by omega), by rw [jf_neg (by omega), p3 _ _ _ (by omega), a5 _ _ _ (by omega)]; exact e2, jf_pos ⟨rfl, rfl, rfl⟩, fun y y0 y1 => ?_⟩)
        by_cases cy : y = x
        · subst cy
          refine ⟨by rw [jf_neg (by omega), p3 _ _ _ (by omega), show 3 * 1 + y = 3 + y by omega, a1, q0, if_neg c], fun _ => ⟨by rw [jf_neg (by omega), p3 _ _ _ (by omega), show 3 * 1 + y = 3 + y by omega]; exact a2, by rw [jf_neg (by omega), p3 _ _ _ (by omega), show 3 * 1 + y = 3 + y by omega]; exact a3, by rw [jf_neg (by omega), p3 _ _ _ (by omega), show 3 * 1 + y = 3 + y by omega]; exact a4, fun k k0 k1 => by rw [jf_neg (by omega), show 4096 * (3 * 1 + y) + k = 4096 * (3 + y) + k by omega]; exact p2 k k0 k1⟩⟩
        · exact old _ (fun c' a' k' hk => by rw [jf_neg (by omega), p3 _ _ _ (by omega), a5 _ _ _ (by omega)]) y y0 (by omega)
  · show jE (b_X42_read_123 t X 3) _
    unfold b_X42_read_123
    rw [if_neg (by omega), eu_X42_read_312]; unfold du_X42_read_312
    rw [eu_X42_read_314]; unfold du_X42_read_314
    refine jS_inr ?_
    have sz : jf t 1000 (X + 4) 3 = nT g := ((e4 0 (by omega) (by omega)).2 (by rw [show iR g 1 0 0 = if jw' g 0 = -1 then 0 else 1 from rfl, if_neg g1]; decide)).2.1
    refine jS_for (fun m w => sRw u w X ∧ (∀ k, 0 ≤ k → k < m → jf w 1002 (X + 6) (2048 + k) = mkG g k) ∧ ∀ c a k, ¬ (c = 1002 ∧ a = X + 6) → jf w c a k = jf t c a k) (fun m => [X, 2 * m]) 0 2048 (by omega) ⟨e1, fun k k0 k1 => by omega, fun _ _ _ _ => rfl⟩ (fun m w m0 m1 ⟨p1, p2, p3⟩ => ?_) (fun w ⟨p1, p2, p3⟩ => ?_)
    · show jE (b_X42_read_314 w X (2 * m)) _
      unfold b_X42_read_314
      have H := h.wr p1
      have e355 : ∀ v, v = 0 ∨ v = 1 → u_X42_read_355 w X (2 * m) v (2048 + m) (X + 6) = some (.inl (jp w 1002 (X + 6) (2048 + m) v, [X, 2 * (m + 1)])) := fun v hv => by
        rw [eu_X42_read_355]; unfold du_X42_read_355
        rw [jst_in (by omega) (by omega), Option.bind_some, Wz_in hv, W32_in (by omega) (by omega), show 2 * m + 2 = 2 * (m + 1) by omega]
      have e354 : u_X42_read_354 w X (2 * m) (2048 + m) (X + 6) = u_X42_read_355 w X (2 * m) 0 (2048 + m) (X + 6) := by rw [eu_X42_read_354]; rfl
      have m01 := mkG_01 (g := g) m
      have fin : some (Sum.inl (jp w 1002 (X + 6) (2048 + m) (mkG g m), [X, 2 * (m + 1)])) = (some (Sum.inl (jp w 1002 (X + 6) (2048 + m) (mkG g m), [X, 2 * (m + 1)])) : Option ((jS × List Int) ⊕ (jS × Int))) := rfl
      have em : (if 2 * m < nT g then (m_X42_isMarkIn w X (2 * m)).bind fun v3 => if v3 = 0 then u_X42_read_354 w X (2 * m) (2048 + m) (X + 6) else u_X42_read_355 w X (2 * m) 1 (2048 + m) (X + 6) else u_X42_read_354 w X (2 * m) (2048 + m) (X + 6)) = some (.inl (jp w 1002 (X + 6) (2048 + m) (mkG g m), [X, 2 * (m + 1)])) := by
        rw [e354, e355 0 (.inl rfl), e355 1 (.inr rfl)]
        by_cases c1 : 2 * m < nT g
        · rw [if_pos c1, s_isMark H G hz m0 c1, Option.bind_some]
          by_cases c2 : mkG g m = 1
          · rw [if_pos c2, if_neg (by decide), c2]
          · rw [if_neg c2, if_pos rfl, show mkG g m = 0 by omega]
        · rw [if_neg c1, show mkG g m = 0 by unfold mkG; rw [if_neg (by omega)]]
      rw [if_pos (by omega), jdv_in (by decide), Option.bind_some, I_div_n (by omega) (by omega) (by omega) (by omega), show 2 * m / 2 = m by omega, jlt_in (by omega) (by omega), Option.bind_some, p3 _ _ _ (by omega), sz, W32_in (z := 2048 + m) (by omega) (by omega), em]
      refine jS_end ⟨rfl, p1.jp (by omega), fun k k0 k1 => ?_, fun c' a' k' hk => by rw [jf_neg (by omega)]; exact p3 c' a' k' hk⟩
      by_cases ck : k = m
      · rw [jf_pos ⟨rfl, rfl, by omega⟩, ck]
      · rw [jf_neg (by omega)]; exact p2 k k0 (by omega)
    · show jE (b_X42_read_314 w X (2 * 2048)) _
      unfold b_X42_read_314
      rw [if_neg (by omega)]
      refine jS_inr (jS_end (cont w p1 ⟨fun x x0 x1 => ?_, by rw [p3 _ _ _ (by omega)]; exact e2, by rw [p3 _ _ _ (by omega)]; exact e3, fun k k0 k1 => by rw [show 2048 * 1 + k = 2048 + k by omega]; exact p2 k k0 k1⟩))
      obtain ⟨f1, f2⟩ := e4 x x0 x1
      refine ⟨by rw [p3 _ _ _ (by omega)]; exact f1, fun q => ?_⟩
      obtain ⟨f3, f4, f5, f6⟩ := f2 q
      exact ⟨by rw [p3 _ _ _ (by omega)]; exact f3, by rw [p3 _ _ _ (by omega)]; exact f4, by rw [p3 _ _ _ (by omega)]; exact f5, fun k k0 k1 => by rw [p3 _ _ _ (by omega)]; exact f6 k k0 k1⟩
end jSread5
