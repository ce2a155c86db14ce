/-! the twin reads a file of an image: segments, the note -/
section jSread3
variable {s t u : jS} {X n p f a b x y e k v : Int} {g g' : Int → Int} {L : List (Prop × Int × Int)} {c : Prop}
/-- rows that are good, their tables -/
def sX (s u : jS) (X : Int) (g : Int → Int) (n : Int) : Prop := sC s X g n ∧ sH s u X g ∧ sW u X g (JE g) ∧ Jd g n ∧ Jr g n
theorem sX.C (h : sX s u X g n) : sC u X g n := h.1.rd h.2.1.1
theorem sX.rw (h : sX s u X g n) (x0 : 0 ≤ x) (x1 : x < 4) : jlt u 1000 (X + 10) 4 x = some (jw' g x) := by rw [jlt_in x0 x1, h.2.2.1 x x0 x1]; rfl
theorem sX.nu (h : sX s u X g n) (c : ¬ jw' g x = -1) (k0 : 0 ≤ k) (k1 : k < 8) : m_X42_number u X (jw' g x) k = some (it g (jw' g x) k) := by
  obtain ⟨a1, a2, -, -⟩ := jw_lo h.2.2.2.1 c
  exact h.2.1.nu h.1 h.2.2.2.1 a1 a2 k0 k1
theorem sX.sp (h : sX s u X g n) (c : ¬ jw' g x = -1) (k0 : 0 ≤ k) (k1 : k < 8) : m_X42_spot u X (jw' g x) k = some (jt' g (jw' g x) k) := by
  obtain ⟨a1, a2, -, -⟩ := jw_lo h.2.2.2.1 c
  exact h.2.1.sp h.1 h.2.2.2.1 a1 a2 k0 k1
theorem sX.lo (h : sX s u X g n) (c : ¬ jw' g x = -1) (k0 : 0 ≤ k) (k1 : k < 8) : 0 ≤ it g (jw' g x) k ∧ it g (jw' g x) k < 4294967296 := by
  obtain ⟨a1, a2, -, -⟩ := jw_lo h.2.2.2.1 c
  exact h.1.lo h.2.2.2.1 a1 a2 k0 k1
theorem sX.en (h : sX s u X g n) (x0 : 0 ≤ x) (x1 : x < 4) (c : ¬ jw' g x = -1) : m_X42_endIn u X x = some (it g (jw' g x) 2 + it g (jw' g x) 5) := by
  have v2 := h.lo c (k := 2) (by omega) (by omega)
  have v5 := h.lo c (k := 5) (by omega) (by omega)
  rw [em_X42_endIn]; unfold dm_X42_endIn
  rw [h.rw x0 x1, Option.bind_some, h.nu c (by omega) (by omega), Option.bind_some, Option.bind_some, h.nu c (by omega) (by omega), Option.bind_some, W64_in (by omega) (by omega)]
theorem s_meetsIn (h : sX s u X g n) (x0 : 0 ≤ x) (x1 : x < 4) (y0 : 0 ≤ y) (y1 : y < 4) : ∃ r, m_X42_meetsIn u X x y = some r ∧ (r = 1 ∧ mtI g x y ∨ r = 0 ∧ ¬ mtI g x y) := by
  rw [em_X42_meetsIn]; unfold dm_X42_meetsIn mtI
  rw [h.rw x0 x1, Option.bind_some, Wz_0, Wz_1]
  by_cases c1 : jw' g x = -1
  · rw [if_pos c1]; exact ⟨0, rfl, .inr ⟨rfl, fun q => q.1 c1⟩⟩
  rw [if_neg c1, h.rw y0 y1, Option.bind_some]
  by_cases c2 : jw' g y = -1
  · rw [if_pos c2]; exact ⟨0, rfl, .inr ⟨rfl, fun q => q.2.1 c2⟩⟩
  rw [if_neg c2, Option.bind_some, h.nu c1 (by omega) (by omega), Option.bind_some]
  simp only [L_cmp_0, L_cmp_lt]
  by_cases c3 : it g (jw' g x) 5 = 0
  · rw [if_pos c3]; exact ⟨0, rfl, .inr ⟨rfl, fun q => q.2.2.1 c3⟩⟩
  rw [if_neg c3, Option.bind_some, h.nu c2 (by omega) (by omega), Option.bind_some]
  by_cases c4 : it g (jw' g y) 5 = 0
  · rw [if_pos c4]; exact ⟨0, rfl, .inr ⟨rfl, fun q => q.2.2.2.1 c4⟩⟩
  rw [if_neg c4, Option.bind_some, h.nu c1 (by omega) (by omega), Option.bind_some, h.en y0 y1 c2, Option.bind_some]
  by_cases c5 : it g (jw' g x) 2 < it g (jw' g y) 2 + it g (jw' g y) 5
  · rw [if_pos c5, Option.bind_some, h.nu c2 (by omega) (by omega), Option.bind_some, h.en x0 x1 c1, Option.bind_some]
    by_cases c6 : it g (jw' g y) 2 < it g (jw' g x) 2 + it g (jw' g x) 5
    · rw [if_pos c6]; exact ⟨1, rfl, .inl ⟨rfl, c1, c2, c3, c4, c5, c6⟩⟩
    · rw [if_neg c6]; exact ⟨0, rfl, .inr ⟨rfl, fun q => c6 q.2.2.2.2.2⟩⟩
  · rw [if_neg c5]; exact ⟨0, rfl, .inr ⟨rfl, fun q => c5 q.2.2.2.2.1⟩⟩
theorem s_meetF (h : sX s u X g n) (x0 : 0 ≤ x) (x1 : x < 4) (y0 : 0 ≤ y) (y1 : y < 4) : jE (m_X42_meetFault u X x y) (ckR (tOK fun t => t = u) (sBD s X) [(¬ mtI g x y, 23, jt' g (mxI g x y) 2)]) := by
  rw [em_X42_meetFault]; unfold dm_X42_meetFault
  obtain ⟨r, er, hr⟩ := s_meetsIn h x0 x1 y0 y1
  rw [er, Option.bind_some]
  rcases hr with ⟨r1, r2⟩ | ⟨r1, r2⟩
  · rw [if_neg (by omega), h.rw x0 x1, Option.bind_some, h.rw y0 y1, Option.bind_some, Option.bind_some, Option.bind_some]
    refine jk_no (fun z => z r2) ?_
    have e41 : (if jw' g y < jw' g x then u_X42_meetFault_41 u X (jw' g x) else u_X42_meetFault_41 u X (jw' g y)) = u_X42_meetFault_41 u X (mxI g x y) := by
      unfold mxI
      by_cases c : jw' g x < jw' g y
      · rw [if_pos c, if_neg (by omega)]
      · rw [if_neg c]
        by_cases c' : jw' g y < jw' g x
        · rw [if_pos c']
        · rw [if_neg c', show jw' g y = jw' g x by omega]
    rw [e41, eu_X42_meetFault_41]; unfold du_X42_meetFault_41
    have hs : m_X42_spot u X (mxI g x y) 2 = some (jt' g (mxI g x y) 2) := by
      unfold mxI
      split
      · exact h.sp r2.2.1 (by omega) (by omega)
      · exact h.sp r2.1 (by omega) (by omega)
    rw [hs, Option.bind_some]
    exact s_fault h.2.1.1 (by omega)
  · rw [if_pos r1]
    exact jk_ok r2 (jk_end (jS_end ⟨rfl, rfl⟩))
/-- the note, but for marks -/
def JNa (g : Int → Int) : List (Prop × Int × Int) := (28 ≤ nZ g, 25, jt' g (jw' g 3) 4) :: (r4 g (nP g) = 6, 25, nP g) :: (r4 g (nP g + 4) = nZ g - 20, 25, nP g + 4) :: (r4 g (nP g + 8) = 1, 25, nP g + 8) :: (ckF (fun k => [(g (nP g + 12 + k) = nmB k, 25, nP g + 12 + k)]) 0 8 ++
  ((r4 g (nP g + 20) = nT g / 2, 25, nP g + 20) :: (nZ g = 28 + up4 ((nT g + 15) / 16), 25, jt' g (jw' g 3) 4) :: (ckF (fun k => ckF (fun j => [(bt8 (g (nP g + 28 + k)) j = 0 ∨ 8 * k + j < nT g / 2, 26, nP g + 28 + k)]) 0 8) 0 (nZ g - 28) ++ [])))
def J27 (g : Int → Int) : List (Prop × Int × Int) := ckF (fun k => [(mkG g k = 0 ∨ shI (iR g) k = true ∨ 2 * k + 4 ≤ nT g ∧ mkG g (k + 1) = 0, 27, nP g + 28 + k / 8)]) 0 (nT g / 2)
noncomputable def J29 (g : Int → Int) : List (Prop × Int × Int) := [(W32 (r4 g (nP g + 24)) = sumI (iR g), 29, nP g + 24), ((r4 g 36 = 1 ↔ 0 < cn (fun k => decide (¬ mkG g k = 0) && shI (iR g) k) (nT g / 2)), 30, 36)]
theorem JNote_eq : JNote g = (¬ jw' g 3 = -1, 24, 44) :: (JNa g ++ ((J27 g ++ [(isMk (iR g) (W32 (r4 g 24)), 28, 24)]) ++ J29 g)) := by
  unfold JNote JNa J27 J29
  simp only [List.cons_append, List.append_assoc, List.nil_append]
theorem s_noteF (h : sX s u X g n) (c0 : ¬ jw' g 0 = -1) (T0 : 0 < nT g ∧ nT g % 2 = 0) (c3 : ¬ jw' g 3 = -1) : jE (m_X42_noteFault u X (nP g) (nZ g) (nT g)) (ckR (tOK fun t => t = u) (sBD s X) (JNa g)) := by
  have hn := h.1.n8
  have hd := h.2.2.2.1
  have hr := h.2.1.1
  have hb := h.1.2.1
  have T2 : nT g ≤ 4096 := (jw_seg hd h.2.2.2.2 hb hn (x := 0) (by omega) (by omega) c0).2.2.2.2.2.2.1
  obtain ⟨n1, n2, n3, n4⟩ := jw_lo hd c3
  obtain ⟨r1, r2', -, -⟩ := h.2.2.2.2 _ n1 n2 n3
  have v1 := h.lo c3 (k := 1) (by omega) (by omega)
  have v4 := h.lo c3 (k := 4) (by omega) (by omega)
  change nP g + nZ g ≤ n at r1
  change nZ g = 0 ∨ 52 ≤ nP g at r2'
  change 0 ≤ nP g ∧ nP g < 4294967296 at v1
  change 0 ≤ nZ g ∧ nZ g < 4294967296 at v4
  unfold JNa
  rw [em_X42_noteFault]; unfold dm_X42_noteFault
  rw [h.rw (by omega) (by omega), Option.bind_some, h.sp c3 (by omega) (by omega), Option.bind_some]
  refine tk_no (by omega) (s_fault hr (by omega)) fun c28 => ?_
  rw [s_r4 h.C (by omega) (by omega), Option.bind_some]
  refine tk_if (L_cmp_0 _ _) (s_fault hr (by omega)) fun _ => ?_
  rw [W32_in (z := nP g + 4) (by omega) (by omega), s_r4 h.C (by omega) (by omega), Option.bind_some, W32_in (z := nZ g - 20) (by omega) (by omega)]
  refine tk_if (L_cmp_0 _ _) (s_fault hr (by omega)) fun _ => ?_
  rw [W32_in (z := nP g + 8) (by omega) (by omega), s_r4 h.C (by omega) (by omega), Option.bind_some]
  refine tk_if (L_cmp_0 _ _) (s_fault hr (by omega)) fun _ => ?_
  rw [eu_X42_noteFault_101]; unfold du_X42_noteFault_101
  refine jk_for (fun k => [(g (nP g + 12 + k) = nmB k, 25, nP g + 12 + k)]) (fun _ t => t = u) (fun k => [X, nP g, nZ g, nT g, jt' g (jw' g 3) 4, k]) 0 8 (by omega) rfl (fun k t k0 k1 _ e => ?_) fun t e _ => ?_
  · subst e
    show jE (b_X42_noteFault_101 t X _ _ _ _ k) _
    unfold b_X42_noteFault_101
    rw [if_pos k1, W32_in (z := nP g + 12) (by omega) (by omega), W32_in (z := nP g + 12 + k) (by omega) (by omega), s_u1 h.C (by omega) (by omega), Option.bind_some, e_X42_nameByte, Option.bind_some, show (if k = 0 then (77 : Int) else if k = 1 then 97 else if k = 2 then 114 else if k = 3 then 107 else if k = 4 then 115 else 0) = nmB k from rfl]
    refine tk_if Iff.rfl ?_ fun _ => jk_end ?_
    · rw [eu_X42_noteFault_128]; unfold du_X42_noteFault_128
      rw [W32_in (z := nP g + 12) (by omega) (by omega), W32_in (z := nP g + 12 + k) (by omega) (by omega)]
      exact s_faultR hr (by omega)
    · rw [W32_in (by omega) (by omega)]
      exact jS_end ⟨t, rfl, rfl⟩
  subst e
  show jE (b_X42_noteFault_101 t X _ _ _ _ 8) _
  unfold b_X42_noteFault_101
  rw [if_neg (by omega), eu_X42_noteFault_148]; unfold du_X42_noteFault_148
  refine jS_inr (jE_mono (?_ : jE _ (ckR (tOK fun w => w = t) (sBD s X) _)) fun r hr => ⟨r, rfl, hr⟩)
  rw [W32_in (z := nP g + 20) (by omega) (by omega), s_r4 h.C (by omega) (by omega), Option.bind_some, jdv_in (by decide), Option.bind_some, I_div_n (by omega) (by omega) (by omega) (by omega)]
  refine tk_if (L_cmp_0 _ _) (s_fault hr (by omega)) fun _ => ?_
  rw [jdv_in (by decide), Option.bind_some, W32_in (z := nT g + 15) (by omega) (by omega), I_div_n (by omega) (by omega) (by omega) (by omega), e_X42_upTo4, Option.bind_some, W32_in (z := (nT g + 15) / 16 + 3) (by omega) (by omega), I_div_n (by omega) (by omega) (by omega) (by omega), W32_in (z := ((nT g + 15) / 16 + 3) / 4 * 4) (by omega) (by omega), W32_in (z := 28 + ((nT g + 15) / 16 + 3) / 4 * 4) (by omega) (by omega)]
  refine tk_if (by exact Iff.rfl) (s_fault hr (by omega)) fun cZ => ?_
  rw [eu_X42_noteFault_208]; unfold du_X42_noteFault_208
  refine jk_for (fun k => ckF (fun j => [(bt8 (g (nP g + 28 + k)) j = 0 ∨ 8 * k + j < nT g / 2, 26, nP g + 28 + k)]) 0 8) (fun _ w => w = t) (fun k => [X, nP g, nZ g, nT g, k]) 0 (nZ g - 28) (by omega) rfl (fun k w k0 k1 _ e => ?_) fun w e _ => ?_
  · subst e
    show jE (b_X42_noteFault_208 w X _ _ _ k) _
    unfold b_X42_noteFault_208
    have hby := hb (nP g + 28 + k) (by omega) (by omega)
    rw [W32_in (z := nZ g - 28) (by omega) (by omega), if_pos k1, eu_X42_noteFault_220]; unfold du_X42_noteFault_220
    rw [← List.append_nil (ckF (fun j => [(bt8 (g (nP g + 28 + k)) j = 0 ∨ 8 * k + j < nT g / 2, 26, nP g + 28 + k)]) 0 8)]
    refine jk_for (fun j => [(bt8 (g (nP g + 28 + k)) j = 0 ∨ 8 * k + j < nT g / 2, 26, nP g + 28 + k)]) (fun _ t => t = w) (fun j => [X, nP g, nZ g, nT g, k, j]) 0 8 (by omega) rfl (fun j t j0 j1 _ e => ?_) fun t e _ => ?_
    · subst e
      show jE (b_X42_noteFault_220 t X _ _ _ k j) _
      unfold b_X42_noteFault_220
      have e276 : u_X42_noteFault_276 t X (nP g) (nZ g) (nT g) k j = some (.inl (t, [X, nP g, nZ g, nT g, k, j + 1])) := by
        rw [eu_X42_noteFault_276]; unfold du_X42_noteFault_276
        rw [W32_in (by omega) (by omega)]
      rw [if_pos j1, W32_in (z := nP g + 28) (by omega) (by omega), W32_in (z := nP g + 28 + k) (by omega) (by omega), s_u1 h.C (by omega) (by omega), Option.bind_some, bt_8 hby j0 j1, e276, W32_in (z := 16 * k) (by omega) (by omega), W32_in (z := 2 * j) (by omega) (by omega), W32_in (z := 16 * k + 2 * j) (by omega) (by omega)]
      have hbt := bt8_01 (g (nP g + 28 + k)) j
      by_cases c1 : bt8 (g (nP g + 28 + k)) j = 1
      · rw [if_pos c1]
        by_cases c2 : 16 * k + 2 * j < nT g
        · rw [if_pos c2]
          exact jk_ok (.inr (by omega)) (jk_end (jS_end ⟨t, rfl, rfl⟩))
        · rw [if_neg c2]
          refine jk_no (fun z => by omega) ?_
          rw [eu_X42_noteFault_262]; unfold du_X42_noteFault_262
          rw [W32_in (z := nP g + 28) (by omega) (by omega), W32_in (z := nP g + 28 + k) (by omega) (by omega)]
          exact jS_inr (jE_mono (s_faultR (S := jS × List Int) hr (by omega)) fun r hr => ⟨r, rfl, hr⟩)
      · rw [if_neg c1]
        exact jk_ok (.inl (by omega)) (jk_end (jS_end ⟨t, rfl, rfl⟩))
    · subst e
      show jE (b_X42_noteFault_220 t X _ _ _ k 8) _
      unfold b_X42_noteFault_220
      rw [if_neg (by omega), eu_X42_noteFault_282]; unfold du_X42_noteFault_282
      rw [W32_in (by omega) (by omega)]
      exact jS_inr (jS_end ⟨_, rfl, ck_end ⟨t, rfl, rfl⟩⟩)
  · subst e
    show jE (b_X42_noteFault_208 w X _ _ _ (nZ g - 28)) _
    unfold b_X42_noteFault_208
    rw [W32_in (z := nZ g - 28) (by omega) (by omega), if_neg (by omega)]
    exact jS_inr (jS_end ⟨_, rfl, ck_end ⟨rfl, rfl⟩⟩)
theorem z_136i (h : ¬ f = 0) : u_X42_imageFault_136 t X x f = some (t, f) := by rw [eu_X42_imageFault_136]; unfold du_X42_imageFault_136; rw [if_neg h]
theorem z_121i (h : ¬ f = 0) : u_X42_imageFault_121 t X x f = some (t, f) := by rw [eu_X42_imageFault_121]; unfold du_X42_imageFault_121; rw [if_neg h]; exact z_136i h
theorem sBD.st (h : ¬ f = 0) (k : sRd s t X) (e : jf t 46 X 10 = p) : sBD s X f p (t, f) := ⟨h, rfl, k, e⟩
theorem nx_s {P : jS → Prop} {M : List (Prop × Int × Int)} {R' : Type} {Q1 : R' → Prop} {Q' : Int → Int → R' → Prop} {Y : Option (jS × Int)} {K : jS × Int → Option R'} (h : jE Y (ckR (tOK P) (sBD s X) L)) (fin : ∀ q f p, sBD s X f p q → jE (K q) (Q' f p)) (ok : Gd L → ∀ t, P t → jE (K (t, 0)) (ckR Q1 Q' M)) : jE (Y.bind K) (ckR Q1 Q' (L ++ M)) := by
  obtain ⟨q, eq, hq⟩ := h
  rw [eq, Option.bind_some]
  rcases hq with ⟨hg, q1, q2⟩ | ⟨f, p, hf, hb⟩
  · have := jk_app hg (ok hg q.1 q2)
    rw [← q1] at this; exact this
  · exact jk_bad hf (fin q f p hb)
theorem s_image (h : sX s u X g n) : jE (m_X42_imageFault u X) (ckR (tOK fun t => t = u) (sBD s X) (JSegs g ++ ((¬ jw' g 3 = -1, 24, 44) :: JNa g))) := by
  have hn := h.1.n8
  have hr := h.2.1.1
  rw [em_X42_imageFault]; unfold dm_X42_imageFault
  rw [h.rw (by omega) (by omega), Option.bind_some]
  have e38 : ∀ (q : Prop) M, ¬ q → jE (u_X42_imageFault_38 u X) (ckR (tOK fun t => t = u) (sBD s X) ((q, 21, 44) :: M)) := fun q M hq => jk_no hq (by
    rw [eu_X42_imageFault_38]; unfold du_X42_imageFault_38
    exact s_fault hr (by omega))
  unfold JSegs
  rw [List.cons_append]
  by_cases c0 : jw' g 0 = -1
  · rw [if_pos c0]; exact e38 _ _ fun z => z.1 c0
  have v4 := h.lo c0 (k := 4) (by omega) (by omega)
  rw [if_neg c0, h.nu c0 (by omega) (by omega), Option.bind_some, Option.bind_some]
  simp only [L_cmp_0]
  by_cases c1 : it g (jw' g 0) 4 = 0
  · rw [if_pos c1]; exact e38 _ _ fun z => by omega
  rw [if_neg c1, jdv_in (by decide), Option.bind_some, L_rem_n (by omega) (by omega) (by omega) (by omega)]
  by_cases c2 : it g (jw' g 0) 4 % 2 = 0
  rotate_left
  · rw [if_neg c2]; exact e38 _ _ fun z => c2 z.2.2
  rw [if_pos c2]
  refine jk_ok ⟨c0, by omega, c2⟩ ?_
  rw [eu_X42_imageFault_49]; unfold du_X42_imageFault_49
  rw [List.append_assoc]
  refine jk_for (fun x => [(jw' g x = -1 ∨ it g (jw' g x) 2 + it g (jw' g x) 5 ≤ 131072, 22, jt' g (jw' g x) 5)]) (fun _ w => w = u) (fun x => [X, jw' g 0, x]) 0 3 (by omega) rfl (fun x w x0 x1 _ e => ?_) fun w e _ => ?_
  · subst e
    show jE (b_X42_imageFault_49 w X _ x) _
    unfold b_X42_imageFault_49
    have e94 : u_X42_imageFault_94 w X (jw' g 0) x = some (.inl (w, [X, jw' g 0, x + 1])) := by
      rw [eu_X42_imageFault_94]; unfold du_X42_imageFault_94
      rw [W32_in (by omega) (by omega)]
    rw [if_pos x1, h.rw x0 (by omega), Option.bind_some, e94]
    by_cases c : jw' g x = -1
    · rw [if_pos c]; exact jk_ok (.inl c) (jk_end (jS_end ⟨w, rfl, rfl⟩))
    · rw [if_neg c, h.en x0 (by omega) c, Option.bind_some]
      refine tk_no (by rw [L_cmp_gt]; omega) ?_ fun _ => jk_end (jS_end ⟨w, rfl, rfl⟩)
      rw [eu_X42_imageFault_76]; unfold du_X42_imageFault_76
      rw [h.rw x0 (by omega), Option.bind_some, h.sp c (by omega) (by omega), Option.bind_some]
      exact s_faultR hr (by omega)
  subst e
  show jE (b_X42_imageFault_49 w X _ 3) _
  unfold b_X42_imageFault_49
  rw [if_neg (by omega), eu_X42_imageFault_100]; unfold du_X42_imageFault_100
  refine jS_inr (jE_mono (?_ : jE _ (ckR (tOK fun t => t = w) (sBD s X) _)) fun r hr => ⟨r, rfl, hr⟩)
  show jE _ (ckR _ _ ([(¬ mtI g 0 1, 23, jt' g (mxI g 0 1) 2)] ++ ([(¬ mtI g 0 2, 23, jt' g (mxI g 0 2) 2)] ++ ([(¬ mtI g 1 2, 23, jt' g (mxI g 1 2) 2)] ++ ((¬ jw' g 3 = -1, 24, 44) :: JNa g)))))
  refine nx_s (s_meetF h (by omega) (by omega) (by omega) (by omega)) (fun q f p hq => by rw [if_neg (by rw [hq.2.1]; exact hq.1), hq.2.1, z_121i hq.1]; exact jS_end (sBD.st hq.1 hq.2.2.1 hq.2.2.2)) fun _ t1 e1 => ?_
  subst e1
  dsimp only
  rw [if_pos rfl]
  refine nx_s (s_meetF h (by omega) (by omega) (by omega) (by omega)) (fun q f p hq => by rw [hq.2.1, z_121i hq.1]; exact jS_end (sBD.st hq.1 hq.2.2.1 hq.2.2.2)) fun _ t2 e2 => ?_
  subst e2
  dsimp only
  rw [eu_X42_imageFault_121]; unfold du_X42_imageFault_121
  rw [if_pos rfl]
  refine nx_s (s_meetF h (by omega) (by omega) (by omega) (by omega)) (fun q f p hq => by rw [hq.2.1, z_136i hq.1]; exact jS_end (sBD.st hq.1 hq.2.2.1 hq.2.2.2)) fun _ t3 e3 => ?_
  subst e3
  dsimp only
  rw [eu_X42_imageFault_136]; unfold du_X42_imageFault_136
  rw [if_pos rfl, h.rw (by omega) (by omega), Option.bind_some]
  refine tk_no Decidable.not_not.symm (s_fault hr (by omega)) fun c3 => ?_
  have w1 := h.lo c3 (k := 1) (by omega) (by omega)
  have w4 := h.lo c3 (k := 4) (by omega) (by omega)
  obtain ⟨n1, n2, n3, n4⟩ := jw_lo h.2.2.2.1 c3
  obtain ⟨r1, -, -, -⟩ := h.2.2.2.2 _ n1 n2 n3
  have T2 := (jw_seg h.2.2.2.1 h.2.2.2.2 h.1.2.1 hn (x := 0) (by omega) (by omega) c0).2.2.2.2.2.2.1
  rw [Option.bind_some, h.nu c3 (by omega) (by omega), Option.bind_some, Option.bind_some, h.nu c3 (by omega) (by omega), Option.bind_some, h.nu c0 (by omega) (by omega), Option.bind_some, l2i_p, l2i_p, l2i_p, W32_in (z := it g (jw' g 3) 1) (by omega) (by omega), W32_in (z := it g (jw' g 3) 4) (by omega) (by omega), W32_in (z := it g (jw' g 0) 4) (by omega) (by omega)]
  have hN := s_noteF h c0 (by show 0 < it g (jw' g 0) 4 ∧ it g (jw' g 0) 4 % 2 = 0; omega) c3
  obtain ⟨q, eq, hq⟩ := hN
  rw [show it g (jw' g 3) 1 = nP g from rfl, show it g (jw' g 3) 4 = nZ g from rfl, show it g (jw' g 0) 4 = nT g from rfl, eq]
  exact jS_end hq
end jSread3
