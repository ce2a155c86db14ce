/-! the component reads a file: sections, symbols -/
section jCread5
variable {s t u : jS} {B N R n p f a b x y e k : Int} {g g' : Int → Int} {o : Int → Int → Int → Int} {st sy rl : Int} {d : Int → Int}
theorem jFx.sub {lo m : Int} (h : jFx s t lo m) (h0 : R + 1 ≤ lo) (h1 : lo + m ≤ R + 619) : jFx s t (R + 1) 618 := h.wide h0 (by omega)
theorem rN.fx (h : rN u R g) (k : jFx u t (R + 3) 616) : rN t R g := ⟨fun i hi => by rw [k.F (by omega)]; exact h.1 i hi, fun i i0 i1 => by rw [k.F (by omega)]; exact h.2 i i0 i1⟩
theorem T39 (h : jTt s 39 y) : 0 ≤ y ∧ jK s y = 23 ∧ jf s 23 y 0 = y + 1 ∧ 0 ≤ y + 1 ∧ jK s (y + 1) = 1001 := by
  have k := h.zz.2.2.1
  have f := h.fld (k := 0) (o := 1) (t' := 2097152) (by decide)
  exact ⟨h.zz.1, k, by rw [← jF_k (show jK s y = 23 from k)]; exact f.1, f.2.zz.1, f.2.zz.2.2.1⟩
theorem c_rsec (C : rC s R B g n) (h : rH s u R B g n) (hr : rN u R g) (hP : Pr g n) (hL : cObL u (R + 3)) : jE (m_X21_sections u R) fun q => rH s q.1 R B g n ∧ rN q.1 R g ∧ cOb q.1 (R + 3) (oP g 0 0 0) := by
  have hn := C.1.2.1
  have hd := hP.1
  obtain ⟨-, tB, -⟩ := T41 C.2.2.2
  rw [em_X21_sections]; unfold dm_X21_sections
  refine jS_call (c_clear hL) fun q ⟨k1, hO⟩ => ?_
  have h1 := h.fx (k1.sub (by omega) (by omega))
  have hr1 := hr.fx (k1.wide (by omega) (by omega))
  have tB1 := tB.ext h1.1.1.2
  rw [eu_X21_sections_9]; unfold du_X21_sections_9
  refine jS_for (fun k t => jFx q.1 t (R + 3) 616 ∧ cObL t (R + 3) ∧ (∀ x, 0 ≤ x → x < 4 → (jf t 19 ((R + 3 + 1) + 4 + 2 * x) 1 = if x < k then sR g x.toNat else 0) ∧ (jf t 19 ((R + 3 + 1) + 4 + 2 * x) 2 = if x < k then aRd g x.toNat else 1)) ∧ (∀ x i, 0 ≤ x → x < 3 → x < k → 0 ≤ i → i < sR g x.toNat → jf t 1001 (((R + 3 + 1) + 4 + 2 * x) + 1) i = sb (g (fR g x.toNat + i))) ∧ (jf t 18 (R + 3) 2 = 0 ∧ jf t 18 (R + 3) 4 = 0 ∧ jf t 18 (R + 3) 6 = 0)) (fun k => [R, k]) 0 4 (by omega) ⟨jFx.rfl, hO.1, fun x x0 x1 => by rw [if_neg (by omega), if_neg (by omega)]; exact hO.2.1 x x0 x1, fun x i x0 x1 xk => by omega, hO.2.2.2.1⟩ (fun k t k0 k1 ⟨e1, e2, e3, e4, e5⟩ => ?_) (fun t ⟨e1, e2, e3, e4, e5⟩ => ?_)
  · show jE (b_X21_sections_9 t R k) _
    unfold b_X21_sections_9
    have ht := h1.fx (e1.sub (by omega) (by omega))
    have hrt := hr1.fx e1
    have hA := hrt.1 k.toNat (by omega)
    rw [nt k0] at hA
    rw [if_pos k1, W32_in (z := k + 1) (by omega) (by omega), jlt_in (by omega) (by omega), Option.bind_some, hA]
    simp only [eu_X21_sections_113, du_X21_sections_113]
    rw [W32_in (z := k + 1) (by omega) (by omega)]
    by_cases c : ep g k.toNat = 0
    · have hs0 : sR g k.toNat = 0 := by unfold sR; rw [if_pos c]
      have ha0 : aRd g k.toNat = 1 := by unfold aRd; rw [if_pos c]
      rw [if_pos c]
      refine jS_end ⟨rfl, e1, e2, fun x x0 x1 => ?_, fun x i x0 x1 xk i0 i1 => ?_, e5⟩
      · obtain ⟨e6, e7⟩ := e3 x x0 x1
        by_cases cx : x = k
        · subst cx
          rw [if_neg (by omega)] at e6 e7
          rw [if_pos (by omega), if_pos (by omega), hs0, ha0]; exact ⟨e6, e7⟩
        · by_cases cl : x < k
          · rw [if_pos cl] at e6 e7
            rw [if_pos (by omega), if_pos (by omega)]; exact ⟨e6, e7⟩
          · rw [if_neg cl] at e6 e7
            rw [if_neg (by omega), if_neg (by omega)]; exact ⟨e6, e7⟩
      · by_cases cx : x = k
        · subst cx; omega
        · exact e4 x i x0 x1 (by omega) i0 i1
    · obtain ⟨q1, q2, q3, q4⟩ := hP.en c
      have r8 := rf_in (e := ep g k.toNat) (k := 8) hd hn (by omega) q2 (by omega) (by omega)
      have hpw := (hP.2.1 _ q1 q2).2.lo
      have hs : sR g k.toNat = rt g (ep g k.toNat) 5 := by unfold sR; rw [if_neg c]
      have hf : fR g k.toNat = rt g (ep g k.toNat) 4 := by unfold fR; rw [if_neg c]
      have ha : aRd g k.toNat = rt g (ep g k.toNat) 8 := by unfold aRd; rw [if_neg c]
      have hsb : 0 ≤ sR g k.toNat ∧ sR g k.toNat ≤ 4096 := by
        by_cases c3 : k = 3
        · subst c3; exact hP.part3
        · have := (hP.part (k := k.toNat) (by omega)).2.1
          have := hP.sec (k := k.toNat) (by omega)
          omega
      rw [if_neg c, jix_in k0 k1, Option.bind_some, g_field ht hd hn (by omega) q2 (by omega) (by omega), Option.bind_some, g_s4 C ht.1 (by omega) r8.2, show r4 g (rf g (ep g k.toNat) 8) = rt g (ep g k.toNat) 8 from rfl, W32_in (by omega) (by omega), ← ha]
      simp only [jls]
      have kx : jFx t (jp t 19 ((R + 3 + 1) + 4 + 2 * k) 2 (aRd g k.toNat)) (R + 3) 616 := jFx.rfl.jp rfl (by omega) (by omega)
      have ht2 := ht.fx (kx.sub (by omega) (by omega))
      rw [g_size C ht2 hd (by omega) q2, Option.bind_some, W32_in (by omega) (by omega), ← hs]
      have ky : jFx q.1 (jp (jp t 19 ((R + 3 + 1) + 4 + 2 * k) 2 (aRd g k.toNat)) 19 ((R + 3 + 1) + 4 + 2 * k) 1 (sR g k.toNat)) (R + 3) 616 := (e1.trans kx).jp rfl (by omega) (by omega)
      rw [eu_X21_sections_70]; unfold du_X21_sections_70
      -- what is the same all along
      have keep : ∀ w, jFx q.1 w (R + 3) 616 → (∀ c a i, ¬ (c = 1001 ∧ a = ((R + 3 + 1) + 4 + 2 * k) + 1) → jf w c a i = jf (jp (jp t 19 ((R + 3 + 1) + 4 + 2 * k) 2 (aRd g k.toNat)) 19 ((R + 3 + 1) + 4 + 2 * k) 1 (sR g k.toNat)) c a i) → (k < 3 → ∀ i, 0 ≤ i → i < sR g k.toNat → jf w 1001 (((R + 3 + 1) + 4 + 2 * k) + 1) i = sb (g (fR g k.toNat + i))) → jFx q.1 w (R + 3) 616 ∧ cObL w (R + 3) ∧ (∀ x, 0 ≤ x → x < 4 → (jf w 19 ((R + 3 + 1) + 4 + 2 * x) 1 = if x < k + 1 then sR g x.toNat else 0) ∧ (jf w 19 ((R + 3 + 1) + 4 + 2 * x) 2 = if x < k + 1 then aRd g x.toNat else 1)) ∧ (∀ x i, 0 ≤ x → x < 3 → x < k + 1 → 0 ≤ i → i < sR g x.toNat → jf w 1001 (((R + 3 + 1) + 4 + 2 * x) + 1) i = sb (g (fR g x.toNat + i))) ∧ (jf w 18 (R + 3) 2 = 0 ∧ jf w 18 (R + 3) 4 = 0 ∧ jf w 18 (R + 3) 6 = 0) := by
        intro w kw hw hb
        refine ⟨kw, fun x x0 x1 => by rw [kw.N]; exact hO.1 x x0 x1, fun x x0 x1 => ?_, fun x i x0 x1 xk i0 i1 => ?_, ?_⟩
        · rw [hw _ _ _ (by omega), hw _ _ _ (by omega)]
          obtain ⟨e6, e7⟩ := e3 x x0 x1
          by_cases cx : x = k
          · subst cx
            rw [jf_pos ⟨rfl, rfl, rfl⟩, jf_neg (by omega), jf_pos ⟨rfl, rfl, rfl⟩, if_pos (by omega), if_pos (by omega)]; exact ⟨rfl, rfl⟩
          · rw [jf_neg (by omega), jf_neg (by omega), jf_neg (by omega), jf_neg (by omega), e6, e7]
            by_cases cl : x < k
            · rw [if_pos cl, if_pos cl, if_pos (by omega), if_pos (by omega)]; exact ⟨rfl, rfl⟩
            · rw [if_neg cl, if_neg cl, if_neg (by omega), if_neg (by omega)]; exact ⟨rfl, rfl⟩
        · by_cases cx : x = k
          · subst cx; exact hb x1 i i0 i1
          · rw [hw _ _ _ (by omega), jf_neg (by omega), jf_neg (by omega)]
            exact e4 x i x0 x1 (by omega) i0 i1
        · rw [hw _ _ _ (by omega), hw _ _ _ (by omega), hw _ _ _ (by omega)]
          (repeat (first | rw [jf_neg (by omega)] | rw [jf_pos (by omega)] | rw [ou_neg (by omega)] | rw [ou_pos (by omega)])); exact e5
      have hsz : ∀ w, (∀ c a i, ¬ (c = 1001 ∧ a = ((R + 3 + 1) + 4 + 2 * k) + 1) → jf w c a i = jf (jp (jp t 19 ((R + 3 + 1) + 4 + 2 * k) 2 (aRd g k.toNat)) 19 ((R + 3 + 1) + 4 + 2 * k) 1 (sR g k.toNat)) c a i) → jf w 19 ((R + 3 + 1) + 4 + 2 * k) 1 = sR g k.toNat := fun w hw => by
        rw [hw _ _ _ (by omega), jf_pos ⟨rfl, rfl, rfl⟩]
      by_cases c3 : k < 3
      · have hp := hP.part (k := k.toNat) (by omega)
        have hb2 := hP.sec (k := k.toNat) (by omega)
        have hlk := hO.1 k k0 k1
        rw [if_neg (by omega)] at hlk
        refine jS_for (fun i w => jFx q.1 w (R + 3) 616 ∧ (∀ c a i, ¬ (c = 1001 ∧ a = ((R + 3 + 1) + 4 + 2 * k) + 1) → jf w c a i = jf (jp (jp t 19 ((R + 3 + 1) + 4 + 2 * k) 2 (aRd g k.toNat)) 19 ((R + 3 + 1) + 4 + 2 * k) 1 (sR g k.toNat)) c a i) ∧ ∀ j, 0 ≤ j → j < i → jf w 1001 (((R + 3 + 1) + 4 + 2 * k) + 1) j = sb (g (fR g k.toNat + j))) (fun i => [R, k, ep g k.toNat, (R + 3 + 1) + 4 + 2 * k, i]) 0 (sR g k.toNat) hsb.1 ⟨ky, fun _ _ _ _ => rfl, fun j j0 j1 => by omega⟩ (fun i w i0 i1 ⟨f1, f2, f3⟩ => ?_) (fun w ⟨f1, f2, f3⟩ => ?_)
        · show jE (b_X21_sections_70 w R k _ _ i) _
          unfold b_X21_sections_70
          have hw := h1.fx (f1.sub (by omega) (by omega))
          have fw := C.fl hw.1.1
          obtain ⟨b0, b1, b2, b3, b4⟩ := T39 fw.2.2
          have hi := C.1.by (fR g k.toNat + i) (by omega) (by omega)
          rw [hsz w f2, if_pos i1, if_pos c3, hw.1.2.1, jrd_in b0 b1, Option.bind_some, b2, g_from C hw hd (by omega) q2, Option.bind_some, ← hf, W32_in (z := fR g k.toNat) (by omega) (by omega), W32_in (z := fR g k.toNat + i) (by omega) (by omega), show jld w 1001 (B + 1) (fR g k.toNat + i) = some (jf w 1001 (B + 1) (fR g k.toNat + i)) by unfold jld; rw [if_pos ⟨b3, b4, by omega, by rw [fw.1.1]; omega⟩], Option.bind_some, fw.at (by omega) (by omega), W8_sb, sb_mod hi.1 hi.2, jst_in i0 (by rw [f1.N, hlk]; omega), Option.bind_some, W32_in (by omega) (by omega)]
          refine jS_end ⟨rfl, f1.jp rfl (by omega) (by omega), fun c a j hq => by rw [jf_neg (by omega)]; exact f2 c a j hq, fun j j0 j1 => ?_⟩
          by_cases cj : j = i
          · rw [jf_pos ⟨rfl, rfl, cj⟩, cj]
          · rw [jf_neg (by omega)]; exact f3 j j0 (by omega)
        · show jE (b_X21_sections_70 w R k _ _ _) _
          unfold b_X21_sections_70
          rw [hsz w f2, if_neg (by omega), eu_X21_sections_113]; unfold du_X21_sections_113
          rw [W32_in (by omega) (by omega)]
          exact jS_inr (jS_end ⟨rfl, keep w f1 f2 fun _ => f3⟩)
      · have : k = 3 := by omega
        subst this
        have e70 : ∀ w, b_X21_sections_70 w R 3 (ep g (3 : Int).toNat) ((R + 3 + 1) + 4 + 2 * 3) 0 = jinr (u_X21_sections_113 w R 3) := fun w => by
          unfold b_X21_sections_70
          by_cases c : 0 < jf w 19 ((R + 3 + 1) + 4 + 2 * 3) 1
          · rw [if_pos c, if_neg (by omega)]
          · rw [if_neg c]
        rw [jlpW_r (C := jc5 b_X21_sections_70) (vs := [R, 3, ep g (3 : Int).toNat, (R + 3 + 1) + 4 + 2 * 3, 0]) (e70 _), eu_X21_sections_113]; unfold du_X21_sections_113
        rw [W32_in (by omega) (by omega)]
        exact jS_end ⟨rfl, keep _ ky (fun _ _ _ _ => rfl) fun z => absurd z (by omega)⟩
  · show jE (b_X21_sections_9 t R 4) _
    unfold b_X21_sections_9
    rw [if_neg (by omega)]
    have ht := h1.fx (e1.sub (by omega) (by omega))
    have hrt := hr1.fx e1
    refine jS_inr (jS_end ⟨ht, hrt, e2, fun x x0 x1 => ?_, fun x k x0 x1 k0 k1 => ?_, e5, fun k k0 k1 => ?_, fun k k0 k1 => ?_, fun k k0 k1 => ?_⟩)
    · obtain ⟨e6, e7⟩ := e3 x x0 x1
      rw [if_pos x1] at e6 e7
      exact ⟨e6, e7⟩
    · exact e4 x k x0 x1 (by omega) k0 k1
    · rw [oP_20] at k1; omega
    · rw [oP_21] at k1; omega
    · rw [oP_22] at k1; omega
end jCread5
