/-! the component reads a file of an image: marks -/
section jIread5
variable {s t u w : jS} {B N R n p f a b x y e k z v d lo hi m S : Int} {g g' : Int → Int} {i j : Int → Int → Int → Int} {L : List (Prop × Int × Int)} {c : Prop} {F : Int → Int} {O : Int → Prop} {A P : Int → Int}
theorem ckF_at (h0 : lo ≤ k) (h1 : k < hi) (hk : ¬ O k) (hj : ∀ j, lo ≤ j → j < k → O j) : Fst (ckF (fun k => [(O k, A k, P k)]) lo hi) (A k) (P k) := by
  have key : ∀ (m : Nat) (lo : Int), (k - lo).toNat = m → lo ≤ k → (∀ j, lo ≤ j → j < k → O j) → Fst (ckF (fun k => [(O k, A k, P k)]) lo hi) (A k) (P k) := by
    intro m
    induction m with
    | zero =>
      intro lo e h0 _
      have : lo = k := by omega
      subst this
      rw [ckF_cons h1]
      exact Fst_no hk
    | succ m ih =>
      intro lo e h0 hj
      rw [ckF_cons (by omega)]
      exact Fst_cons (hj lo (Int.le_refl _) (by omega)) (ih (lo + 1) (by omega) (by omega) fun j j0 j1 => hj j (by omega) j1)
  exact key _ lo rfl h0 hj
/-- with marks told by the first bytes -/
def iQ (s u : jS) (R B : Int) (g : Int → Int) (n m : Int) : Prop := iH s u R B g n ∧ iW u R g (JE g) ∧ cIm u (R + 1) (iM g m)
theorem iM_full (hz : nT g ≤ 2 * m) : iM g m = iR g := by
  funext c a k
  unfold iM
  by_cases h : c = 3 ∧ m ≤ a
  · rw [if_pos h, h.1]
    show 0 = mkG g a
    unfold mkG
    rw [if_neg (by omega)]
  · rw [if_neg h]
theorem mkG_at (k0 : 0 ≤ k) (x0 : 0 ≤ x) (x1 : x < 8) : mkG g (8 * k + x) = if 2 * (8 * k + x) < nT g then bt8 (g (nP g + 28 + k)) x else 0 := by
  unfold mkG
  rw [show (8 * k + x) / 8 = k by omega, show (8 * k + x) % 8 = x by omega]
  by_cases c : 2 * (8 * k + x) < nT g
  · rw [if_pos ⟨by omega, c⟩, if_pos c]
  · rw [if_neg (fun q => c q.2), if_neg c]
theorem bt_8 {b : Int} (hb : 0 ≤ b ∧ b < 256) (x0 : 0 ≤ x) (x1 : x < 8) : I_and (I_shr b x) 1 = bt8 b x := by
  rw [I_and_1, i_shr_p (by omega) (by omega) (by omega)]; rfl
/-- one mark more -/
theorem cIm.mk1 (h : cIm u b (iM g m)) (m0 : 0 ≤ m) (hm : mkG g m = 0) : cIm u b (iM g (m + 1)) := by
  obtain ⟨h1, h2, h3, h4, h5⟩ := h
  refine ⟨h1, h2, h3, fun k k0 k1 => ?_, h5⟩
  rw [h4 k k0 k1]
  unfold iM
  by_cases c1 : m + 1 ≤ k
  · rw [if_pos ⟨rfl, by omega⟩, if_pos ⟨rfl, c1⟩]
  · rw [if_neg (show ¬ ((3 : Int) = 3 ∧ m + 1 ≤ k) from fun q => c1 q.2)]
    by_cases c2 : m ≤ k
    · have : k = m := by omega
      subst this
      rw [if_pos ⟨rfl, c2⟩]; exact hm.symm
    · rw [if_neg (fun q => c2 q.2)]
theorem cIm.mk2 (h : cIm u b (iM g m)) (m0 : 0 ≤ m) (hm : mkG g m = 1) : cIm (jp u 1002 (b + 2) m 1) b (iM g (m + 1)) := by
  obtain ⟨h1, h2, h3, h4, h5⟩ := h
  refine ⟨fun x x0 x1 => (h1 x x0 x1).keep fun c a k a0 a1 => jf_neg (by unfold vsg at a0; omega), by (repeat (first | rw [jf_neg (by omega)] | rw [jf_pos (by omega)] | rw [ou_neg (by omega)] | rw [ou_pos (by omega)])); exact h2, by (repeat (first | rw [jf_neg (by omega)] | rw [jf_pos (by omega)] | rw [ou_neg (by omega)] | rw [ou_pos (by omega)])); exact h3, fun k k0 k1 => ?_, fun x x0 x1 => by rw [jf_neg (by omega)]; exact h5 x x0 x1⟩
  by_cases c2 : k = m
  · rw [jf_pos ⟨rfl, rfl, c2⟩]
    unfold iM
    rw [if_neg (by omega), c2]; exact hm.symm
  · rw [jf_neg (by omega), h4 k k0 k1]
    unfold iM
    by_cases c1 : m + 1 ≤ k
    · rw [if_pos ⟨rfl, by omega⟩, if_pos ⟨rfl, c1⟩]
    · rw [if_neg (by omega), if_neg (by omega)]
theorem nm_c (k0 : 0 ≤ k) (k1 : k < 4) : I_and (I_shr 1802658125 (W32 (8 * k))) 255 = nmB k := by
  rw [W32_in (by omega) (by omega), I_and_255, i_shr_p (by omega) (by omega) (by omega)]
  have : k = 0 ∨ k = 1 ∨ k = 2 ∨ k = 3 := by omega
  rcases this with rfl | rfl | rfl | rfl <;> decide
theorem i_rmarks (C : iC s R B g n) (h : iQ s u R B g n 0) (hd : Jd g n) (hr : Jr g n) (hT0 : ¬ jw' g 0 = -1 ∧ 0 < nT g ∧ nT g % 2 = 0) : jE (m_X28_marks u R) (ckR (cOK fun t => iH s t R B g n ∧ cIm t (R + 1) (iR g)) (iBD s R) (JNote g)) := by
  have hn := C.1.2.1
  have hb := C.1.by
  obtain ⟨H, W, I⟩ := h
  obtain ⟨c0, T0, T1⟩ := hT0
  have T2 : nT g ≤ 4096 := (jw_seg hd hr hb hn (x := 0) (by omega) (by omega) c0).2.2.2.2.2.2.1
  have th : ∀ m, ¬ iM g m 1 0 0 = 0 := fun m => iM_th.mpr c0
  unfold JNote
  rw [em_X28_marks]; unfold dm_X28_marks
  rw [W.2, show rwI g 3 (JE g) = jw' g 3 from rfl]
  have e0 : (if jw' g 3 = -1 then u_X28_marks_14 u R 0 R else u_X28_marks_14 u R 1 R) = if ¬ jw' g 3 = -1 then u_X28_marks_14 u R 1 R else u_X28_marks_14 u R 0 R := by
    by_cases c : jw' g 3 = -1
    · rw [if_pos c, if_neg (fun z => z c)]
    · rw [if_neg c, if_pos c]
  rw [e0]
  refine ni_if C H.1.1 (by rw [eu_X28_marks_14]; rfl) (by rw [eu_X28_marks_14]; rfl) Iff.rfl (fun q hq => hq.end) fun c3 => ?_
  dsimp only
  obtain ⟨n1, n2, n3, n4⟩ := jw_lo hd c3
  obtain ⟨r1, r2', -, -⟩ := hr _ n1 n2 n3
  have v1 := it_lo hb hd hn n1 n2 (k := 1) (by omega) (by omega)
  have v4 := it_lo hb hd hn n1 n2 (k := 4) (by omega) (by omega)
  rw [W.2, show rwI g 3 (JE g) = jw' g 3 from rfl, i_val C H hd n1 n2 (by omega) (by omega), Option.bind_some, i_val C H hd n1 n2 (by omega) (by omega), Option.bind_some, W32_in (by omega) (by omega), W32_in (by omega) (by omega), show it g (jw' g 3) 4 = nZ g from rfl, show it g (jw' g 3) 1 = nP g from rfl]
  change nP g + nZ g ≤ n at r1
  change nZ g = 0 ∨ 52 ≤ nP g at r2'
  change 0 ≤ nP g ∧ nP g < 4294967296 at v1
  change 0 ≤ nZ g ∧ nZ g < 4294967296 at v4
  have Fd : ∀ {t}, iH s t R B g n → iW t R g (JE g) → m_X28_field t R (jf t 32 R 7) 4 = some (jt' g (jw' g 3) 4) := fun ht hw => by
    rw [hw.2]; exact i_field ht hd hn n1 n2 (by omega) (by omega)
  have e1 : (if nZ g < 28 then u_X28_marks_53 u R (nZ g) (nP g) 0 R else u_X28_marks_53 u R (nZ g) (nP g) 1 R) = if 28 ≤ nZ g then u_X28_marks_53 u R (nZ g) (nP g) 1 R else u_X28_marks_53 u R (nZ g) (nP g) 0 R := by
    by_cases c : nZ g < 28
    · rw [if_pos c, if_neg (by omega)]
    · rw [if_neg c, if_pos (by omega)]
  rw [e1]
  refine ni_if C H.1.1 (by rw [eu_X28_marks_53]; unfold du_X28_marks_53; rw [Fd H W, Option.bind_some]) (by rw [eu_X28_marks_53]; unfold du_X28_marks_53; rw [Fd H W, Option.bind_some]) Iff.rfl (fun q hq => hq.end) fun c28 => ?_
  dsimp only
  rw [h_u4 C H.1 (by omega) (by omega)]
  refine ni_if C H.1.1 (by rw [eu_X28_marks_88]; rfl) (by rw [eu_X28_marks_88]; rfl) (L_cmp_0 _ _) (fun q hq => hq.end) fun _ => ?_
  dsimp only
  rw [W32_in (z := nP g + 4) (by omega) (by omega), h_u4 C H.1 (by omega) (by omega), W64_in (by omega) (by omega)]
  refine ni_if C H.1.1 (by rw [eu_X28_marks_120]; unfold du_X28_marks_120; rw [W32_in (z := nP g + 4) (by omega) (by omega)]) (by rw [eu_X28_marks_120]; unfold du_X28_marks_120; rw [W32_in (z := nP g + 4) (by omega) (by omega)]) (L_cmp_0 _ _) (fun q hq => hq.end) fun _ => ?_
  dsimp only
  rw [W32_in (z := nP g + 8) (by omega) (by omega), h_u4 C H.1 (by omega) (by omega)]
  refine ni_if C H.1.1 (by rw [eu_X28_marks_150]; unfold du_X28_marks_150; rw [W32_in (z := nP g + 8) (by omega) (by omega)]) (by rw [eu_X28_marks_150]; unfold du_X28_marks_150; rw [W32_in (z := nP g + 8) (by omega) (by omega)]) (L_cmp_0 _ _) (fun q hq => hq.end) fun _ => ?_
  dsimp only
  rw [eu_X28_marks_161]; unfold du_X28_marks_161
  refine jk_for (fun k => [(g (nP g + 12 + k) = nmB k, 25, nP g + 12 + k)]) (fun _ t => t = u) (fun k => [R, nZ g, nP g, k]) 0 8 (by omega) rfl (fun k t k0 k1 _ e => ?_) fun t e _ => ?_
  · subst e
    show jE (b_X28_marks_161 t R _ _ k) _
    unfold b_X28_marks_161
    have e3 : (if k < 4 then u_X28_marks_211 t R (nZ g) (nP g) k (I_and (I_shr 1802658125 (W32 (8 * k))) 255) (g (nP g + 12 + k)) R else if k = 4 then u_X28_marks_211 t R (nZ g) (nP g) k 115 (g (nP g + 12 + k)) R else u_X28_marks_211 t R (nZ g) (nP g) k 0 (g (nP g + 12 + k)) R) = u_X28_marks_211 t R (nZ g) (nP g) k (nmB k) (g (nP g + 12 + k)) R := by
      by_cases c : k < 4
      · rw [if_pos c, nm_c k0 c]
      · rw [if_neg c]
        unfold nmB
        rw [if_neg (show ¬ k = 0 by omega), if_neg (show ¬ k = 1 by omega), if_neg (show ¬ k = 2 by omega), if_neg (show ¬ k = 3 by omega)]
        by_cases c4 : k = 4
        · rw [if_pos c4, if_pos c4]
        · rw [if_neg c4, if_neg c4]
    rw [if_pos k1, W32_in (z := nP g + 12) (by omega) (by omega), W32_in (z := nP g + 12 + k) (by omega) (by omega), h_u1 C H.1 (by omega) (by omega), e3, eu_X28_marks_211]; unfold du_X28_marks_211
    refine ni_if C H.1.1 (by rw [eu_X28_marks_219]; unfold du_X28_marks_219; rw [W32_in (z := nP g + 12) (by omega) (by omega), W32_in (z := nP g + 12 + k) (by omega) (by omega)]) (by rw [eu_X28_marks_219]; unfold du_X28_marks_219; rw [W32_in (z := nP g + 12) (by omega) (by omega), W32_in (z := nP g + 12 + k) (by omega) (by omega)]) Iff.rfl (fun q hq => hq.inr) fun _ => jk_end ?_
    dsimp only
    rw [W32_in (by omega) (by omega)]
    exact jS_end ⟨t, rfl, rfl⟩
  subst e
  show jE (b_X28_marks_161 t R _ _ 8) _
  unfold b_X28_marks_161
  rw [if_neg (by omega), eu_X28_marks_236]; unfold du_X28_marks_236
  refine jS_inr (jE_mono (?_ : jE _ (ckR (cOK fun t => iH s t R B g n ∧ cIm t (R + 1) (iR g)) (iBD s R) _)) fun r hr => ⟨r, rfl, hr⟩)
  have T43 := C.t43 H.1.1
  have V0 := iM_v (m := 0) hd hr hb hn
  have pl : (if iM g 0 1 0 0 = 0 then 0 else iM g 0 1 0 2 / 2) = nT g / 2 := by rw [if_neg (th 0)]; rfl
  have mb : mkN (iM g 0) = (nT g + 15) / 16 := by unfold mkN; rw [if_neg (th 0)]; rfl
  rw [W32_in (z := nP g + 20) (by omega) (by omega), h_u4 C H.1 (by omega) (by omega), i_places T43 I V0, Option.bind_some, pl]
  refine ni_if C H.1.1 (by rw [eu_X28_marks_265]; unfold du_X28_marks_265; rw [W32_in (z := nP g + 20) (by omega) (by omega)]) (by rw [eu_X28_marks_265]; unfold du_X28_marks_265; rw [W32_in (z := nP g + 20) (by omega) (by omega)]) (L_cmp_0 _ _) (fun q hq => hq.end) fun _ => ?_
  dsimp only
  rw [(i_markBytes T43 I V0 (th 0)).1, Option.bind_some, mb, jdv_in (by decide), Option.bind_some, W32_in (z := (nT g + 15) / 16 + 3) (by omega) (by omega), I_div_n (by omega) (by omega) (by omega) (by omega), W32_in (z := ((nT g + 15) / 16 + 3) / 4 * 4) (by omega) (by omega), W32_in (by omega) (by omega), show ((nT g + 15) / 16 + 3) / 4 * 4 = up4 ((nT g + 15) / 16) from rfl]
  refine ni_if C H.1.1 (by rw [eu_X28_marks_300]; unfold du_X28_marks_300; rw [Fd H W, Option.bind_some]) (by rw [eu_X28_marks_300]; unfold du_X28_marks_300; rw [Fd H W, Option.bind_some]) Iff.rfl (fun q hq => hq.end) fun cZ => ?_
  dsimp only
  have cZ' : nZ g = 28 + ((nT g + 15) / 16 + 3) / 4 * 4 := cZ
  -- the bits
  rw [eu_X28_marks_316]; unfold du_X28_marks_316
  have I' : iQ s t R B g n (8 * 0) := ⟨H, W, I⟩
  refine jk_for (fun k => ckF (fun j => [(bt8 (g (nP g + 28 + k)) j = 0 ∨ 8 * k + j < nT g / 2, 26, nP g + 28 + k)]) 0 8) (fun k t => iQ s t R B g n (8 * k)) (fun k => [R, nZ g, nP g, k]) 0 (nZ g - 28) (by omega) I' (fun k t k0 k1 _ ⟨H, W, I⟩ => ?_) fun t ⟨H, W, I⟩ _ => ?_
  · show jE (b_X28_marks_316 t R (nZ g) (nP g) k) _
    unfold b_X28_marks_316
    have hby := hb (nP g + 28 + k) (by omega) (by omega)
    rw [W32_in (z := 28 + k) (by omega) (by omega), if_pos (by omega), W32_in (z := nP g + 28) (by omega) (by omega), W32_in (z := nP g + 28 + k) (by omega) (by omega), h_u1 C H.1 (by omega) (by omega), eu_X28_marks_342]; unfold du_X28_marks_342
    rw [← List.append_nil (ckF (fun j => [(bt8 (g (nP g + 28 + k)) j = 0 ∨ 8 * k + j < nT g / 2, 26, nP g + 28 + k)]) 0 8)]
    refine jk_for (fun j => [(bt8 (g (nP g + 28 + k)) j = 0 ∨ 8 * k + j < nT g / 2, 26, nP g + 28 + k)]) (fun j t => iQ s t R B g n (8 * k + j)) (fun j => [R, nZ g, nP g, k, g (nP g + 28 + k), j]) 0 8 (by omega) ⟨H, W, by rw [Int.add_zero]; exact I⟩ (fun j t j0 j1 _ ⟨H, W, I⟩ => ?_) fun t ⟨H, W, I⟩ _ => ?_
    · show jE (b_X28_marks_342 t R (nZ g) (nP g) k _ j) _
      unfold b_X28_marks_342
      have T43 := C.t43 H.1.1
      have V := iM_v (m := 8 * k + j) hd hr hb hn
      have pl : (if iM g (8 * k + j) 1 0 0 = 0 then 0 else iM g (8 * k + j) 1 0 2 / 2) = nT g / 2 := by rw [if_neg (th _)]; rfl
      have e427 : ∀ t, u_X28_marks_427 t R (nZ g) (nP g) k (g (nP g + 28 + k)) j = some (.inl (t, [R, nZ g, nP g, k, g (nP g + 28 + k), j + 1])) := fun t => by
        rw [eu_X28_marks_427]; unfold du_X28_marks_427
        rw [W32_in (by omega) (by omega)]
      have e390 : ∀ y, u_X28_marks_390 t R (nZ g) (nP g) k (g (nP g + 28 + k)) j y R = u_X28_marks_395 t R (nZ g) (nP g) k (g (nP g + 28 + k)) j y 1 R := fun y => by rw [eu_X28_marks_390]; rfl
      have hbt := bt8_01 (g (nP g + 28 + k)) j
      have hmk := mkG_at (g := g) k0 j0 j1
      rw [if_pos j1, bt_8 hby j0 j1]
      by_cases c1 : bt8 (g (nP g + 28 + k)) j = 1
      · rw [if_pos c1, eu_X28_marks_365]; unfold du_X28_marks_365
        rw [if_neg (by decide), i_places T43 I V, Option.bind_some, pl, W32_in (z := 8 * k) (by omega) (by omega), W32_in (z := 8 * k + j) (by omega) (by omega), e390]
        refine ni_if C H.1.1 (by rw [eu_X28_marks_395]; unfold du_X28_marks_395; rw [W32_in (z := nP g + 28) (by omega) (by omega), W32_in (z := nP g + 28 + k) (by omega) (by omega)]) (by rw [eu_X28_marks_395]; unfold du_X28_marks_395; rw [W32_in (z := nP g + 28) (by omega) (by omega), W32_in (z := nP g + 28 + k) (by omega) (by omega)]) (by omega) (fun q hq => ?_) fun c2 => jk_end ?_
        · exact jS_inr (jE_mono (hq.inr : jE (jinr (some (q.1, true, q.2.2)) : Option ((jS × List Int) ⊕ (jS × Bool × Int))) _) fun r hr => ⟨r, rfl, hr⟩)
        · dsimp only
          have c2 : 8 * k + j < nT g / 2 := by omega
          rw [if_pos (by omega), c1] at hmk
          rw [if_neg (by decide), W32_in (z := 8 * k) (by omega) (by omega), W32_in (z := 8 * k + j) (by omega) (by omega), jst_in (by omega) (by omega), Option.bind_some, Wz_1, e427]
          have kk : jFx t (jp t 1002 (R + 1 + 2) (8 * k + j) 1) (R + 1) 10 := jFx.rfl.jp rfl (by omega) (by omega)
          exact jS_end ⟨_, rfl, H.fx kk, W.fx kk, by have := I.mk2 (by omega) hmk; rw [show 8 * k + j + 1 = 8 * k + (j + 1) by omega] at this; exact this⟩
      · have c1' : bt8 (g (nP g + 28 + k)) j = 0 := by omega
        rw [if_neg c1, eu_X28_marks_365]; unfold du_X28_marks_365
        rw [if_pos rfl, e390, eu_X28_marks_395]; unfold du_X28_marks_395
        rw [W32_in (z := nP g + 28) (by omega) (by omega), W32_in (z := nP g + 28 + k) (by omega) (by omega)]
        refine ni_x C H.1.1 (.inr rfl) ⟨fun _ => .inl c1', fun _ => rfl⟩ (fun q hq => jS_inr (jE_mono (hq.inr : jE (jinr (some (q.1, true, q.2.2)) : Option ((jS × List Int) ⊕ (jS × Bool × Int))) _) fun r hr => ⟨r, rfl, hr⟩)) fun _ => jk_end ?_
        dsimp only
        rw [if_pos rfl, e427]
        refine jS_end ⟨t, rfl, H, W, ?_⟩
        have := I.mk1 (by omega) (by rw [hmk, c1']; split <;> rfl)
        rw [show 8 * k + j + 1 = 8 * k + (j + 1) by omega] at this; exact this
    · show jE (b_X28_marks_342 t R (nZ g) (nP g) k _ 8) _
      unfold b_X28_marks_342
      rw [if_neg (by omega), eu_X28_marks_433]; unfold du_X28_marks_433
      rw [W32_in (by omega) (by omega)]
      refine jS_inr (jS_end ⟨_, rfl, ck_end ⟨t, rfl, H, W, ?_⟩⟩)
      rw [show 8 * (k + 1) = 8 * k + 8 by omega]; exact I
  · show jE (b_X28_marks_316 t R (nZ g) (nP g) (nZ g - 28)) _
    unfold b_X28_marks_316
    rw [W32_in (by omega) (by omega), if_neg (by omega), eu_X28_marks_439]; unfold du_X28_marks_439
    refine jS_inr (jE_mono (?_ : jE _ (ckR (cOK fun t => iH s t R B g n ∧ cIm t (R + 1) (iR g)) (iBD s R) _)) fun r hr => ⟨r, rfl, hr⟩)
    have eM : iM g (8 * (nZ g - 28)) = iR g := iM_full (by omega)
    have V : vIm (iR g) := by rw [← eM]; exact iM_v hd hr hb hn
    rw [eM] at I
    have thR : ¬ iR g 1 0 0 = 0 := th (nT g)
    have sz : iR g 1 0 2 = nT g := rfl
    have gm : ∀ k, 0 ≤ k → (gmI (iR g) k ↔ nT g / 2 ≤ k ∨ (mkG g k = 0 ∨ shI (iR g) k = true ∨ 2 * k + 4 ≤ nT g ∧ mkG g (k + 1) = 0)) := fun k k0 => by
      unfold gmI
      rw [sz, show iR g 3 k 0 = mkG g k from rfl, show iR g 3 (k + 1) 0 = mkG g (k + 1) from rfl]
      by_cases c : nT g / 2 ≤ k
      · have : mkG g k = 0 := by unfold mkG; rw [if_neg (by omega)]
        exact ⟨fun _ => .inl c, fun _ => .inl this⟩
      · constructor
        · rintro (q | ⟨q1, q2⟩)
          · exact .inr (.inl q)
          · exact .inr (.inr q2)
        · rintro (q | q | q)
          · exact absurd q c
          · exact .inl q
          · exact .inr ⟨by omega, q⟩
    have T43 := C.t43 H.1.1
    refine jS_call (i_wmarks T43 I V thR) fun q ⟨k1, hq⟩ => ?_
    have k1' : jFx t q.1 (R + 1) 10 := k1.1.wide (by omega) (by omega)
    have H1 := H.fx k1'
    have W1 := W.fx k1'
    have I1 := I.wm k1
    generalize q.1 = t1 at k1 k1' hq H1 W1 I1 ⊢
    generalize q.2 = r at hq ⊢
    have T43 := C.t43 H1.1.1
    rcases hq with ⟨q1, k, k0, k1, q2, q3, q4⟩ | hq
    · subst q1
      have kT : k < nT g / 2 := Classical.byContradiction fun z => q2 ((gm k k0).mpr (.inl (by omega)))
      rw [if_pos rfl, eu_X28_marks_458]; unfold du_X28_marks_458
      rw [q4, jdv_in (by decide), Option.bind_some, I_div_n (by omega) (by omega) (by omega) (by omega), W32_in (z := nP g + 28) (by omega) (by omega), W32_in (z := nP g + 28 + k / 8) (by omega) (by omega)]
      refine jk_bad (ckF_at (O := fun k => mkG g k = 0 ∨ shI (iR g) k = true ∨ 2 * k + 4 ≤ nT g ∧ mkG g (k + 1) = 0) (A := fun _ => 27) (P := fun k => nP g + 28 + k / 8) k0 kT (fun z => q2 ((gm k k0).mpr (.inr z))) fun j j0 j1 => ((gm j j0).mp (q3 j j0 j1)).resolve_left (by omega)) (jS_call (nee_no C H1.1.1) fun q hq => ?_)
      rw [show q.2.1 = true from hq.1]
      exact hq.end
    have gd : ∀ k, 0 ≤ k → k < 2048 → gmI (iR g) k := by rcases hq with hq | hq <;> exact hq.2.1
    have r4' : ¬ r = 4 := by rcases hq with hq | hq <;> omega
    rw [if_neg r4', eu_X28_marks_458]; unfold du_X28_marks_458
    rw [jdv_in (by decide), Option.bind_some, nee_ok (by decide), Option.bind_some]
    refine jk_app (ckF_gd.mpr fun k k0 k1 => Gd_cons.mpr ⟨((gm k k0).mp (gd k k0 (by omega))).resolve_left (by omega), Gd_nil⟩) ?_
    have ent : iR g 2 0 0 = W32 (r4 g 24) := rfl
    have e28 : (if r = 5 then u_X28_marks_489 t1 R (nP g) 0 R else u_X28_marks_489 t1 R (nP g) 1 R) = u_X28_marks_489 t1 R (nP g) (if r = 5 then 0 else 1) R := by split <;> rfl
    show jE (if r = 5 then u_X28_marks_489 t1 R (nP g) 0 R else u_X28_marks_489 t1 R (nP g) 1 R) _
    rw [e28, eu_X28_marks_489]; unfold du_X28_marks_489
    refine ni_x C H1.1.1 (by split <;> omega) ?_ (fun q hq => hq.end) fun _ => ?_
    · rw [← ent]
      rcases hq with ⟨z1, z2, z3⟩ | ⟨z1, z2, z3⟩
      · rw [if_pos z1]; exact ⟨fun z => absurd z (by decide), fun z => absurd z z3⟩
      · rw [if_neg (by omega)]; exact ⟨fun _ => z3, fun _ => rfl⟩
    dsimp only
    rw [W32_in (z := nP g + 24) (by omega) (by omega), h_s4 C H1.1 (by omega) (by omega)]
    refine jS_call (i_sum T43 ((T48 (C.2.2.2.ext H1.1.1.2)).2.1) I1 V (by omega)) fun q ⟨z1, v, z2⟩ => ?_
    have k2 : jFx t1 q.1 (R + 1) 10 := z2.1.wide (by omega) (by omega)
    have H2 := H1.fx k2
    have I2 := I1.kf z2.1 (by omega)
    have T43 := C.t43 H2.1.1
    rw [z1]
    generalize q.1 = t2 at k2 H2 I2 T43 ⊢
    refine ni_if C H2.1.1 (by rw [eu_X28_marks_527]; unfold du_X28_marks_527; rw [W32_in (z := nP g + 24) (by omega) (by omega)]) (by rw [eu_X28_marks_527]; unfold du_X28_marks_527; rw [W32_in (z := nP g + 24) (by omega) (by omega)]) Iff.rfl (fun q hq => hq.end) fun _ => ?_
    dsimp only
    have h52 := hd.1
    rw [h_u4 C H2.1 (by omega) (by omega)]
    have ec : cn (ctI (iR g) 1) (if iR g 1 0 0 = 0 then 0 else iR g 1 0 2 / 2) = cn (fun k => decide (¬ mkG g k = 0) && shI (iR g) k) (nT g / 2) := by
      rw [if_neg thR]
      congr 1
    have e5 : (if L_cmp (r4 g 36) 1 = 0 then u_X28_marks_556 t2 R 1 R else u_X28_marks_556 t2 R 0 R) = if (r4 g 36 = 1 ↔ 0 < cn (fun k => decide (¬ mkG g k = 0) && shI (iR g) k) (nT g / 2)) then u_X28_marks_580 t2 1 R else u_X28_marks_580 t2 0 R := by
      simp only [eu_X28_marks_556, du_X28_marks_556, i_count T43 I2 V, Option.bind_some, eu_X28_marks_572, du_X28_marks_572, L_cmp_0, ec]
      by_cases c1 : r4 g 36 = 1 <;> by_cases c2 : 0 < cn (fun k => decide (¬ mkG g k = 0) && shI (iR g) k) (nT g / 2) <;> simp only [c1, c2, eq_self, and_false, false_and, and_true, true_and, if_true, if_false, reduceIte, Int.reduceEq, Int.reduceLT, Int.reduceLE, Int.reduceNeg, not_false_eq_true, Option.bind_some, jls, iff_true, iff_false, true_iff, false_iff, not_true_eq_false]
    rw [e5]
    refine ni_if C H2.1.1 (by rw [eu_X28_marks_580]; rfl) (by rw [eu_X28_marks_580]; rfl) Iff.rfl (fun q hq => hq.end) fun _ => jk_end ?_
    dsimp only
    exact jS_end ⟨rfl, H2, I2⟩
end jIread5
