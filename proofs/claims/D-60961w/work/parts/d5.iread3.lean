/-! the component reads a file of an image: segments -/
section jIread3
variable {s t u w : jS} {B N R n p f a b x y e k z v d lo m : Int} {g g' : Int → Int} {i j : Int → Int → Int → Int} {L : List (Prop × Int × Int)} {c : Prop}
theorem iH.fx (h : iH s u R B g n) (k : jFx u t (R + 1) 10) : iH s t R B g n := by
  obtain ⟨⟨h1, h2, h3⟩, h4, h5⟩ := h
  exact ⟨⟨h1.trans (k.wide (by omega) (by omega)), by rw [k.F (by omega)]; exact h2, by rw [k.F (by omega)]; exact h3⟩, by rw [k.F (by omega)]; exact h4, by rw [k.F (by omega)]; exact h5⟩
theorem iW.fx (h : iW u R g e) (k : jFx u t (R + 1) 10) : iW t R g e := ⟨fun x x0 x1 => by rw [k.F (by omega)]; exact h.1 x x0 x1, by rw [k.F (by omega)]; exact h.2⟩
/-- an image with the first marks alone -/
noncomputable def iM (g : Int → Int) (m : Int) : Int → Int → Int → Int := fun c a k => if c = 3 ∧ m ≤ a then 0 else iR g c a k
theorem iM_0 : iM g m 0 a k = g (it g (jw' g a) 1 + k) := rfl
theorem iM_10 : iM g m 1 a 0 = if jw' g a = -1 then 0 else 1 := rfl
theorem iM_11 : iM g m 1 a 1 = it g (jw' g a) 2 := rfl
theorem iM_12 : iM g m 1 a 2 = it g (jw' g a) 4 := rfl
theorem iM_13 : iM g m 1 a 3 = it g (jw' g a) 5 - it g (jw' g a) 4 := rfl
theorem iM_th : (¬ iM g m 1 a 0 = 0) ↔ ¬ jw' g a = -1 := by
  rw [iM_10]
  by_cases c : jw' g a = -1
  · rw [if_pos c]; exact ⟨fun z => absurd rfl z, fun z => absurd c z⟩
  · rw [if_neg c]; exact ⟨fun _ => c, fun _ => by decide⟩
theorem iM_th0 : iM g m 1 a 0 = 0 ↔ jw' g a = -1 := by
  have := iM_th (g := g) (m := m) (a := a)
  constructor
  · intro h; exact Classical.byContradiction fun z => this.mpr z h
  · intro h; exact Classical.byContradiction fun z => this.mp z h
/-- the row of a part -/
theorem jw_lo (hd : Jd g n) (c : ¬ jw' g x = -1) : 0 ≤ jw' g x ∧ jw' g x < JE g ∧ ¬ it g (jw' g x) 0 = 0 ∧ srI g (jw' g x) = x := by
  have := rwI_lo (g := g) (x := x) (e := JE g) (by have := hd.2.2.2.1; omega)
  exact this.resolve_left c
theorem jw_seg (hd : Jd g n) (hr : Jr g n) (hb : byG g n) (hn : n ≤ 16384) (x0 : 0 ≤ x) (x1 : x < 3) (c : ¬ jw' g x = -1) : it g (jw' g x) 1 + it g (jw' g x) 4 ≤ n ∧ (it g (jw' g x) 4 = 0 ∨ 52 ≤ it g (jw' g x) 1) ∧ pP2 (it g (jw' g x) 7) ∧ 0 ≤ it g (jw' g x) 2 ∧ it g (jw' g x) 2 < 131072 ∧ 0 ≤ it g (jw' g x) 4 ∧ it g (jw' g x) 4 ≤ 4096 ∧ it g (jw' g x) 4 ≤ it g (jw' g x) 5 ∧ it g (jw' g x) 5 ≤ it g (jw' g x) 4 + 32768 ∧ 0 ≤ it g (jw' g x) 1 := by
  obtain ⟨a1, a2, a3, a4⟩ := jw_lo hd c
  have h4 : ¬ it g (jw' g x) 0 = 4 := fun z => by
    unfold srI at a4
    rw [if_pos z] at a4
    split at a4 <;> omega
  obtain ⟨b1, b2, b3, b4⟩ := hr _ a1 a2 a3
  obtain ⟨b5, b6, b7, b8⟩ := b4 h4
  have v1 := it_lo hb hd hn a1 a2 (k := 1) (by omega) (by omega)
  have v2 := it_lo hb hd hn a1 a2 (k := 2) (by omega) (by omega)
  have v4 := it_lo hb hd hn a1 a2 (k := 4) (by omega) (by omega)
  exact ⟨b1, b2, b3, v2.1, b5, v4.1, b6, b7, by split at b8 <;> omega, v1.1⟩
theorem bt8_01 (b k : Int) : bt8 b k = 0 ∨ bt8 b k = 1 := by unfold bt8; omega
theorem mkG_01 (k : Int) : mkG g k = 0 ∨ mkG g k = 1 := by
  unfold mkG
  split
  · exact bt8_01 _ _
  · exact .inl rfl
theorem pP2.mx {x y : Int} (hx : pP2 x) (hy : pP2 y) : pP2 (jmx x y) := by unfold jmx; split; exact hy; exact hx
theorem iM_v (hd : Jd g n) (hr : Jr g n) (hb : byG g n) (hn : n ≤ 16384) : vIm (iM g m) := by
  refine ⟨fun x x0 x1 => ⟨?_, fun c => ?_⟩, ?_, ?_, fun k k0 k1 => ?_⟩
  · rw [iM_10]; split; exact .inl rfl; exact .inr rfl
  · have c := iM_th.mp c
    obtain ⟨a1, a2, a3, a4, a5, a6, a7, a8, a9, a10⟩ := jw_seg hd hr hb hn x0 x1 c
    rw [iM_11, iM_12, iM_13]
    exact ⟨a4, a5, a6, a7, by omega, by omega, fun k k0 k1 => by rw [iM_0]; exact hb _ (by omega) (by omega)⟩
  · exact W32_lo _
  · have p1 : pP2 1 := .inl rfl
    have P : ∀ x, 0 ≤ x → x < 3 → pP2 (if jw' g x = -1 then 1 else it g (jw' g x) 7) := fun x x0 x1 => by
      by_cases c : jw' g x = -1
      · rw [if_pos c]; exact p1
      · rw [if_neg c]; exact (jw_seg hd hr hb hn x0 x1 c).2.2.1
    exact ((p1.mx (P 0 (by omega) (by omega))).mx (P 1 (by omega) (by omega))).mx (P 2 (by omega) (by omega))
  · show (if (3 : Int) = 3 ∧ m ≤ k then 0 else mkG g k) = 0 ∨ (if (3 : Int) = 3 ∧ m ≤ k then 0 else mkG g k) = 1
    split
    · exact .inl rfl
    · exact mkG_01 k
/-- what the questions about segments ask -/
theorem iM_h : hT (iM g m) ↔ ¬ jw' g 0 = -1 ∧ 0 < it g (jw' g 0) 4 ∧ it g (jw' g 0) 4 % 2 = 0 := by
  unfold hT
  rw [iM_th]; exact Iff.rfl
theorem iM_en : enI (iM g m) x = it g (jw' g x) 2 + it g (jw' g x) 5 := by
  show it g (jw' g x) 2 + it g (jw' g x) 4 + (it g (jw' g x) 5 - it g (jw' g x) 4) = _
  omega
theorem iM_w : wI (iM g m) x ↔ jw' g x = -1 ∨ it g (jw' g x) 2 + it g (jw' g x) 5 ≤ 131072 := by
  unfold wI
  rw [iM_th0, iM_en]
theorem iM_m (hd : Jd g n) (hr : Jr g n) (hb : byG g n) (hn : n ≤ 16384) (x0 : 0 ≤ x) (x1 : x < 3) (y0 : 0 ≤ y) (y1 : y < 3) : mI (iM g m) x y ↔ mtI g x y := by
  unfold mI mtI
  rw [iM_th, iM_th, iM_en, iM_en, iM_11, iM_11]
  constructor
  · rintro ⟨a1, a2, a3, a4, a5, a6⟩
    exact ⟨a1, a2, by omega, by omega, a3, a4⟩
  · rintro ⟨a1, a2, a3, a4, a5, a6⟩
    have b1 := jw_seg hd hr hb hn x0 x1 a1
    have b2 := jw_seg hd hr hb hn y0 y1 a2
    exact ⟨a1, a2, a5, a6, by omega, by omega⟩
/-- the page so far -/
noncomputable def pgI (g : Int → Int) (x : Int) : Int := if x = 0 then 1 else if x = 1 then jmx 1 (if jw' g 0 = -1 then 1 else it g (jw' g 0) 7) else if x = 2 then jmx (jmx 1 (if jw' g 0 = -1 then 1 else it g (jw' g 0) 7)) (if jw' g 1 = -1 then 1 else it g (jw' g 1) 7) else jmx (jmx (jmx 1 (if jw' g 0 = -1 then 1 else it g (jw' g 0) 7)) (if jw' g 1 = -1 then 1 else it g (jw' g 1) 7)) (if jw' g 2 = -1 then 1 else it g (jw' g 2) 7)
theorem pgI_s (x0 : 0 ≤ x) (x1 : x < 3) : pgI g (x + 1) = jmx (pgI g x) (if jw' g x = -1 then 1 else it g (jw' g x) 7) := by
  have : x = 0 ∨ x = 1 ∨ x = 2 := by omega
  rcases this with e | e | e <;> subst e <;> rfl
theorem jmx_1 (h : 1 ≤ x) : jmx x 1 = x := by unfold jmx; rw [if_neg (by omega)]
theorem pgI_lo (hd : Jd g n) (hr : Jr g n) (hb : byG g n) (hn : n ≤ 16384) (x0 : 0 ≤ x) (x1 : x ≤ 3) : 1 ≤ pgI g x := by
  have M : ∀ a b : Int, 1 ≤ a → 1 ≤ jmx a b := fun a b h => by unfold jmx; split <;> omega
  unfold pgI
  repeat' split
  all_goals first | omega | exact M _ _ (by omega) | exact M _ _ (M _ _ (by omega)) | exact M _ _ (M _ _ (M _ _ (by omega)))
theorem i_rseg1 (C : iC s R B g n) (h : iH s u R B g n) (hw : iW u R g (JE g)) (hz : cIz u (R + 1)) (hd : Jd g n) (hr : Jr g n) {Q : jS × Bool × Int → Prop} (cont : ∀ t, iH s t R B g n → iW t R g (JE g) → cIm t (R + 1) (iM g 0) → jE (u_X28_segments_148 t R) Q) : jE (m_X28_segments u R) Q := by
  have hn := C.1.2.1
  have hb := C.1.by
  rw [em_X28_segments]; unfold dm_X28_segments
  refine jS_call (i_clear hz) fun q ⟨k0, I0⟩ => ?_
  have k0' : jFx u q.1 (R + 1) 10 := k0.wide (by omega) (by omega)
  have H0 := h.fx k0'
  have W0 := hw.fx k0'
  generalize q.1 = t0 at k0 k0' I0 H0 W0 ⊢
  rw [h_s4 C H0.1 (by omega) (by have := hd.1; omega)]
  simp only [jls]
  have k1 : jFx t0 (jp t0 27 (R + 1) 2 (W32 (r4 g 24))) (R + 1) 10 := jFx.rfl.jp rfl (by omega) (by omega)
  obtain ⟨i1, i2, i3, i4, i5⟩ := I0
  rw [eu_X28_segments_25]; unfold du_X28_segments_25
  refine jS_for (fun x t => iH s t R B g n ∧ iW t R g (JE g) ∧ jf t 27 (R + 1) 2 = W32 (r4 g 24) ∧ jf t 27 (R + 1) 3 = pgI g x ∧ (∀ y, 0 ≤ y → y < x → cSg t (vsg (R + 1) y) (iM g 0) y) ∧ (∀ y, x ≤ y → y < 3 → jf t 28 (vsg (R + 1) y) 2 = 0) ∧ (∀ k, 0 ≤ k → k < 2048 → jf t 1002 ((R + 1) + 2) k = 0) ∧ cIz t (R + 1)) (fun x => [R, x]) 0 3 (by omega) ⟨H0.fx k1, W0.fx k1, by (repeat (first | rw [jf_neg (by omega)] | rw [jf_pos (by omega)] | rw [ou_neg (by omega)] | rw [ou_pos (by omega)])), by (repeat (first | rw [jf_neg (by omega)] | rw [jf_pos (by omega)] | rw [ou_neg (by omega)] | rw [ou_pos (by omega)])); exact i3, fun y y0 y1 => by omega, fun y y0 y1 => by rw [jf_neg (by omega)]; exact (i1 y y0 y1).1, fun k k0 k1 => by (repeat (first | rw [jf_neg (by omega)] | rw [jf_pos (by omega)] | rw [ou_neg (by omega)] | rw [ou_pos (by omega)])); exact i4 k k0 k1, fun y y0 y1 => by rw [jf_neg (by omega)]; exact i5 y y0 y1⟩ (fun x t x0 x1 ⟨g1, g2, g3, g4, g5, g6, g7, gz⟩ => ?_) (fun t ⟨g1, g2, g3, g4, g5, g6, g7, gz⟩ => ?_)
  · show jE (b_X28_segments_25 t R x) _
    unfold b_X28_segments_25
    have e142 : ∀ t, u_X28_segments_142 t R x = some (.inl (t, [R, x + 1])) := fun t => by
      rw [eu_X28_segments_142]; unfold du_X28_segments_142
      rw [W32_in (by omega) (by omega)]
    have pl := pgI_lo hd hr hb hn x0 (show x ≤ 3 by omega)
    rw [if_pos x1, jlt_in x0 x1, Option.bind_some, g2.1 x x0 x1, show rwI g x (JE g) = jw' g x from rfl]
    by_cases c : jw' g x = -1
    · rw [if_pos c, e142]
      refine jS_end ⟨rfl, g1, g2, g3, by rw [pgI_s x0 x1, if_pos c, jmx_1 pl]; exact g4, fun y y0 y1 => ?_, fun y y0 y1 => g6 y (by omega) y1, g7, gz⟩
      by_cases cy : y = x
      · subst cy
        exact ⟨by rw [iM_10, if_pos c]; exact g6 y (by omega) (by omega), fun z => absurd c (iM_th.mp z)⟩
      · exact g5 y y0 (by omega)
    · obtain ⟨a1, a2, a3, a4⟩ := jw_lo hd c
      obtain ⟨b1, b2, b3, b4, b5, b6, b7, b8, b9, b10⟩ := jw_seg hd hr hb hn x0 x1 c
      have V : ∀ {t}, iH s t R B g n → ∀ k, 0 ≤ k → k < 8 → m_X28_value t R (jw' g x) k = some (W32 (it g (jw' g x) k)) := fun ht k k0 k1 => i_val C ht hd a1 a2 k0 k1
      rw [if_neg c, jix_in x0 x1, Option.bind_some, V g1 2 (by omega) (by omega), Option.bind_some, V g1 5 (by omega) (by omega), Option.bind_some, V g1 4 (by omega) (by omega), Option.bind_some, W32_in (z := it g (jw' g x) 2) (by omega) (by omega), W32_in (z := it g (jw' g x) 5) (by omega) (by omega), W32_in (z := it g (jw' g x) 4) (by omega) (by omega), W32_in (by omega) (by omega), show ((R + 1) + 1) + 2 + 2 * x = vsg (R + 1) x from rfl]
      refine jS_call (i_lie (g6 x (by omega) x1)) fun q ⟨l0, l1, l2, l3, l4⟩ => ?_
      have l0' : jFx t q.1 (R + 1) 10 := l0.wide (by unfold vsg; omega) (by unfold vsg; omega)
      have lF : ∀ c a k, ¬ a = vsg (R + 1) x → jf q.1 c a k = jf t c a k := fun c a k ha => l0.F (by omega) k
      generalize q.1 = t1 at l0 l0' l1 l2 l3 l4 lF ⊢
      rw [eu_X28_segments_81]; unfold du_X28_segments_81
      refine jS_for (fun m t' => jFx t t' (R + 1) 10 ∧ jf t' 28 (vsg (R + 1) x) 2 = 1 ∧ jf t' 28 (vsg (R + 1) x) 3 = it g (jw' g x) 2 ∧ jf t' 28 (vsg (R + 1) x) 4 = m ∧ jf t' 28 (vsg (R + 1) x) 5 = it g (jw' g x) 5 - it g (jw' g x) 4 ∧ (∀ k, 0 ≤ k → k < m → jf t' 1001 (vsg (R + 1) x + 1) k = sb (g (it g (jw' g x) 1 + k))) ∧ ∀ c a k, ¬ (a = vsg (R + 1) x ∨ a = vsg (R + 1) x + 1) → jf t' c a k = jf t c a k) (fun m => [R, x, jw' g x, vsg (R + 1) x, m]) 0 (it g (jw' g x) 4) b6 ⟨l0', l1, l2, l3, l4, fun k k0 k1 => by omega, fun c a k ha => lF c a k (by omega)⟩ (fun m t' m0 m1 ⟨p1, p2, p3, p4, p5, p6, p7⟩ => ?_) (fun t' ⟨p1, p2, p3, p4, p5, p6, p7⟩ => ?_)
      · show jE (b_X28_segments_81 t' R x (jw' g x) (vsg (R + 1) x) m) _
        unfold b_X28_segments_81
        have hT' := g1.fx p1
        have hby := hb (it g (jw' g x) 1 + m) (by omega) (by omega)
        rw [V hT' 4 (by omega) (by omega), Option.bind_some, W32_in (z := it g (jw' g x) 4) (by omega) (by omega), if_pos m1, V hT' 1 (by omega) (by omega), Option.bind_some, W32_in (z := it g (jw' g x) 1) (by omega) (by omega), W32_in (z := it g (jw' g x) 1 + m) (by omega) (by omega), h_u1 C hT'.1 (by omega) (by omega), i_add (by omega) (by omega), Option.bind_some, p4, W32_in (by omega) (by omega), W8_W8]
        refine jS_end ⟨rfl, (p1.jp rfl (by unfold vsg; omega) (by unfold vsg; omega)).jp rfl (by unfold vsg; omega) (by unfold vsg; omega), by (repeat (first | rw [jf_neg (by omega)] | rw [jf_pos (by omega)] | rw [ou_neg (by omega)] | rw [ou_pos (by omega)])); exact p2, by (repeat (first | rw [jf_neg (by omega)] | rw [jf_pos (by omega)] | rw [ou_neg (by omega)] | rw [ou_pos (by omega)])); exact p3, jf_pos ⟨rfl, rfl, rfl⟩, by (repeat (first | rw [jf_neg (by omega)] | rw [jf_pos (by omega)] | rw [ou_neg (by omega)] | rw [ou_pos (by omega)])); exact p5, fun k k0 k1 => ?_, fun c a k ha => by rw [jf_neg (by omega), jf_neg (by omega)]; exact p7 c a k ha⟩
        by_cases ck : k = m
        · rw [jf_neg (by omega), jf_pos ⟨rfl, rfl, ck⟩, ck]; congr 1; omega
        · rw [jf_neg (by omega), jf_neg (by omega)]; exact p6 k k0 (by omega)
      · show jE (b_X28_segments_81 t' R x (jw' g x) (vsg (R + 1) x) (it g (jw' g x) 4)) _
        unfold b_X28_segments_81
        have hT' := g1.fx p1
        have hW' := g2.fx p1
        have lp := b3.lo
        rw [V hT' 4 (by omega) (by omega), Option.bind_some, W32_in (z := it g (jw' g x) 4) (by omega) (by omega), if_neg (by omega), eu_X28_segments_118]; unfold du_X28_segments_118
        rw [V hT' 7 (by omega) (by omega), Option.bind_some, W32_in (z := it g (jw' g x) 7) (by omega) (by omega)]
        simp only [jls]
        have vx : ∀ y, 0 ≤ y → y < 3 → ¬ y = x → ¬ (vsg (R + 1) y = vsg (R + 1) x ∨ vsg (R + 1) y = vsg (R + 1) x + 1) ∧ ¬ (vsg (R + 1) y + 1 = vsg (R + 1) x ∨ vsg (R + 1) y + 1 = vsg (R + 1) x + 1) := fun y y0 y1 hy => by unfold vsg; omega
        have v27 : ¬ (R + 1 = vsg (R + 1) x ∨ R + 1 = vsg (R + 1) x + 1) ∧ ¬ (R + 1 + 2 = vsg (R + 1) x ∨ R + 1 + 2 = vsg (R + 1) x + 1) := by unfold vsg; omega
        have k9 : jFx t' (jp t' 27 (R + 1) 3 (jmx (jf t' 27 (R + 1) 3) (it g (jw' g x) 7))) (R + 1) 10 := jFx.rfl.jp rfl (by omega) (by omega)
        rw [e142]
        refine jS_inr (jS_end ⟨rfl, hT'.fx k9, hW'.fx k9, by rw [jf_neg (by omega), p7 _ _ _ v27.1]; exact g3, ?_, fun y y0 y1 => ?_, fun y y0 y1 => ?_, fun k k0 k1 => by rw [jf_neg (by omega), p7 _ _ _ v27.2]; exact g7 k k0 k1, fun y y0 y1 => ?_⟩)
        · rw [jf_pos ⟨rfl, rfl, rfl⟩, p7 _ _ _ v27.1, g4, pgI_s x0 x1, if_neg c]
        · by_cases cy : y = x
          · subst cy
            refine ⟨by rw [jf_neg (by omega), p2, iM_10, if_neg c], fun _ => ⟨by rw [jf_neg (by omega), p3]; rfl, by rw [jf_neg (by omega), p4]; rfl, by rw [jf_neg (by omega), p5]; rfl, fun k k0 k1 => by rw [jf_neg (by omega)]; exact p6 k k0 k1⟩⟩
          · obtain ⟨z1, z2⟩ := vx y y0 (by omega) cy
            refine (g5 y y0 (by omega)).keep fun c a k a0 a1 => ?_
            have v4 : R + 4 ≤ vsg (R + 1) y := by unfold vsg; omega
            by_cases ca : a = vsg (R + 1) y
            · rw [jf_neg (by omega), p7 _ _ _ (by omega)]
            · rw [jf_neg (by omega), p7 _ _ _ (by omega)]
        · obtain ⟨z1, z2⟩ := vx y (by omega) y1 (by omega)
          rw [jf_neg (by omega), p7 _ _ _ z1]; exact g6 y (by omega) y1
        · by_cases cy : y = x
          · subst cy
            rw [jf_neg (by omega), p4]; omega
          · obtain ⟨z1, z2⟩ := vx y y0 y1 cy
            rw [jf_neg (by omega), p7 _ _ _ z1]; exact gz y y0 y1
  · show jE (b_X28_segments_25 t R 3) _
    unfold b_X28_segments_25
    rw [if_neg (by omega)]
    exact jS_inr (cont t g1 g2 ⟨fun x x0 x1 => g5 x x0 x1, g3, g4, fun k k0 k1 => by rw [g7 k k0 k1]; unfold iM; rw [if_pos ⟨rfl, k0⟩], gz⟩)
end jIread3
