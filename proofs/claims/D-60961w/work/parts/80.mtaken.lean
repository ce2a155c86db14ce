/-! the word at hand -/
section jMtaken
variable {s t : jS} {M U : Int}
/-- but the word, nothing differs -/
def Cw (s s' : jS) (M : Int) : Prop := jSm s s' ∧ ∀ c a k, ¬ (c = 34 ∧ a = M + 9) → jf s' c a k = jf s c a k
/-- but the parts and the word's kind and bytes, nothing differs -/
def Tw (t t' : jS) (U : Int) : Prop := jSm t t' ∧ ∀ c a k, ¬ (c = 1000 ∧ a = U + 2) → ¬ (c = 47 ∧ a = U ∧ 25 ≤ k ∧ k ≤ 28) → jf t' c a k = jf t c a k
theorem Cw.rfl : Cw s s M := ⟨jSm.rfl, fun _ _ _ _ => Eq.refl _⟩
theorem Tw.rfl : Tw t t U := ⟨jSm.rfl, fun _ _ _ _ _ => Eq.refl _⟩
theorem Cw.trans {u : jS} (h : Cw s t M) (g : Cw t u M) : Cw s u M := ⟨h.1.trans g.1, fun c a k q => (g.2 c a k q).trans (h.2 c a k q)⟩
theorem Tw.trans {u : jS} (h : Tw s t U) (g : Tw t u U) : Tw s u U := ⟨h.1.trans g.1, fun c a k q r => (g.2 c a k q r).trans (h.2 c a k q r)⟩
theorem Cw.word {k v : Int} (h : Cw s t M) : Cw s (jp t 34 (M + 9) k v) M := ⟨h.1.jp, fun c a j q => by rw [jf_jp, if_neg (fun x => q ⟨x.1, x.2.1⟩)]; exact h.2 c a j q⟩
theorem Cw.pw5 {q : jP5} (h : Cw s t M) : Cw s (pw5 t (M + 9) q) M := (((h.word.word).word).word).word
theorem Tw.f {k v : Int} (h : Tw s t U) (h0 : 25 ≤ k) (h1 : k ≤ 28) : Tw s (jp t 47 U k v) U := ⟨h.1.jp, fun c a j q r => by rw [jf_jp, if_neg (fun x => r ⟨x.1, x.2.1, by omega⟩)]; exact h.2 c a j q r⟩
theorem Tw.pw4 {p : jP4} (h : Tw s t U) : Tw s (pw4 t (U + 2) p) U := ⟨h.1.trans (pw4_Sm _ _ _), fun c a j q r => by rw [jf_pw4, if_neg (fun x => q ⟨x.1, x.2.1⟩)]; exact h.2 c a j q r⟩
/-- both fail alike -/
def MF (s : jS) (M : Int) (t : jS) (U : Int) (r q : jS × Int) : Prop := r.2 = 0 ∧ q.2 = 0 ∧ ∃ s' t' x y, Cw s s' M ∧ Tw t t' U ∧ (1 ≤ x ∧ x ≤ 4) ∧ r.1 = jp (jp s' 33 M 11 x) 33 M 12 y ∧ q.1 = jp (jp t' 47 U 17 x) 47 U 18 y
/-- both have a word -/
def MW (s : jS) (M : Int) (t : jS) (U : Int) (p : jP5) : Prop := pOk p ∧ ¬ p.1 = -1 ∧ jf s 34 (M + 9) 0 = p.1 ∧ jf s 34 (M + 9) 1 = p.2.1 ∧ jf s 34 (M + 9) 2 = p.2.2.1 ∧ jf s 34 (M + 9) 3 = p.2.2.2.1 ∧ jf s 34 (M + 9) 4 = p.2.2.2.2 ∧ jf s 34 (M + 9) 5 = jf t 47 U 25 ∧ (jf t 47 U 25 = 2 ∨ jf t 47 U 25 = 4) ∧ jf t 47 U 26 = p.1 ∧ jf t 1000 (U + 2) 0 = p.2.1 ∧ jf t 1000 (U + 2) 1 = p.2.2.1 ∧ jf t 1000 (U + 2) 2 = p.2.2.2.1 ∧ jf t 1000 (U + 2) 3 = p.2.2.2.2
def MT (s : jS) (M : Int) (t : jS) (U : Int) (r q : jS × Int) : Prop := MF s M t U r q ∨ r.2 = 1 ∧ q.2 = 1 ∧ Cw s r.1 M ∧ Tw t q.1 U ∧ ∃ p, MW r.1 M q.1 U p
theorem s_fails (s : jS) (M a b : Int) : m_X29_fails s M a b = some (jp (jp s 33 M 11 a) 33 M 12 b, 0) := by
  simp only [em_X29_fails, dm_X29_fails, jls]
theorem s_fail (t : jS) (U a b : Int) : m_X43_fail t U a b = some (jp (jp t 47 U 17 a) 47 U 18 b, a) := by
  simp only [em_X43_fail, dm_X43_fail, jls]
/-- the end of both: what a word w is -/
theorem p_word {w : Int} {r : jP4} (hK : MrK s M) (hP : pRows t (U + 1)) (hpc : jf s 33 M 10 = jf t 47 U 11) (hw : -2147483648 ≤ w ∧ w ≤ 2147483647) (hs : ¬ w % 4 = 3 → 0 ≤ w ∧ w < 65536) (h5 : jf s 34 (M + 9) 5 = jf t 47 U 25) (h5' : jf t 47 U 25 = 2 ∨ jf t 47 U 25 = 4) :
    jE2 (u_X29_taken_100 (pw5 s (M + 9) (cDec r w)) M) (u_X43_isFetched_107 t U w) (MT s M t U) := by
  simp only [eu_X29_taken_100, du_X29_taken_100, eu_X29_taken_120, du_X29_taken_120]
  have e0 : jf (pw5 s (M + 9) (cDec r w)) 34 (M + 9) 0 = (cDec r w).1 := by
    rw [jf_pw5, if_neg (by omega), if_neg (by omega), if_neg (by omega), if_neg (by omega), if_pos ⟨rfl, rfl, rfl⟩]
  have e10 : jf (pw5 s (M + 9) (cDec r w)) 33 M 10 = jf s 33 M 10 := by
    rw [jf_pw5, if_neg (by omega), if_neg (by omega), if_neg (by omega), if_neg (by omega), if_neg (by omega)]
  rw [e0, e10]
  rcases s_isF107 t U w r hP hw hs with ⟨h1, q, h2⟩ | ⟨h1, h2⟩
  · rw [if_pos h1, h2, s_fails, s_fail, Option.bind_some, Option.bind_some, Wz_0]
    have e1 : jf (jp (jp (pw5 s (M + 9) (cDec r w)) 33 M 11 2) 33 M 12 (jf s 33 M 10)) 34 (M + 9) 0 = -1 := by
      rw [jf_jp, if_neg (by omega), jf_jp, if_neg (by omega), e0, h1]
    rw [e1, if_pos rfl]
    refine jE2_some.mpr (.inl ⟨rfl, rfl, pw5 s (M + 9) (cDec r w), jp (pw4 t (U + 2) q) 47 U 26 (-1), 2, jf t 47 U 11, Cw.rfl.pw5, (Tw.rfl.pw4).f (by omega) (by omega), by omega, ?_, rfl⟩)
    rw [hpc]
  · rw [if_neg h1, if_neg h1, h2, Wz_1]
    refine jE2_some.mpr (.inr ⟨rfl, rfl, Cw.rfl.pw5, (Tw.rfl.pw4).f (by omega) (by omega), cDec r w, cDec_ok r w h1, h1, e0, ?_⟩)
    have e25 : jf (jp (pw4 t (U + 2) (cDec r w).2) 47 U 26 (cDec r w).1) 47 U 25 = jf t 47 U 25 := by
      rw [jf_jp, if_neg (by omega), jf_pw4, if_neg (by omega)]
    have e4 : ∀ k : Int, 0 ≤ k → k < 4 → jf (jp (pw4 t (U + 2) (cDec r w).2) 47 U 26 (cDec r w).1) 1000 (U + 2) k = p4g (cDec r w).2 k.toNat := fun k k0 k1 => by
      rw [jf_jp, if_neg (by omega), jf_pw4, if_pos ⟨rfl, rfl, k0, k1⟩]
    refine ⟨?_, ?_, ?_, ?_, ?_, ?_, jp_47 _ _ _ _, e4 0 (by omega) (by omega), e4 1 (by omega) (by omega), e4 2 (by omega) (by omega), e4 3 (by omega) (by omega)⟩
    · rw [jf_pw5, if_neg (by omega), if_neg (by omega), if_neg (by omega), if_pos ⟨rfl, rfl, rfl⟩]
    · rw [jf_pw5, if_neg (by omega), if_neg (by omega), if_pos ⟨rfl, rfl, rfl⟩]
    · rw [jf_pw5, if_neg (by omega), if_pos ⟨rfl, rfl, rfl⟩]
    · rw [jf_pw5, if_pos ⟨rfl, rfl, rfl⟩]
    · rw [jf_pw5, if_neg (by omega), if_neg (by omega), if_neg (by omega), if_neg (by omega), if_neg (by omega), e25, h5]
    · rw [e25]; exact h5'
theorem MF.of {s0 t0 : jS} {r q : jS × Int} (h : MF s M t U r q) (h1 : Cw s0 s M) (h2 : Tw t0 t U) : MF s0 M t0 U r q := by
  obtain ⟨a, b, s', t', x, y, c, d, e, f, g⟩ := h
  exact ⟨a, b, s', t', x, y, h1.trans c, h2.trans d, e, f, g⟩
theorem MT.of {s0 t0 : jS} {r q : jS × Int} (h : MT s M t U r q) (h1 : Cw s0 s M) (h2 : Tw t0 t U) : MT s0 M t0 U r q := by
  rcases h with h | ⟨a, b, c, d, e⟩
  · exact .inl (h.of h1 h2)
  · exact .inr ⟨a, b, h1.trans c, h2.trans d, e⟩
theorem MrK.cw (h : MrK s M) (g : Cw s t M) : MrK t M := h.sm g.1
theorem jRho.of {s' t' : jS} {ρ : Int → Int} (h1 : MrSeg M (jf s' 35) (jf t' 1000 (U + 5)) (jf t' 1000 (U + 6)) (jf t' 1000 (U + 7))) : ∃ ρ, jRho s' M t' U ρ := p_rho h1
theorem p_taken (hK : MrK s M) (hP : pRows t (U + 1)) (hpc : jf s 33 M 10 = jf t 47 U 11) (hr : -2147483648 ≤ jf t 47 U 11 ∧ jf t 47 U 11 ≤ 2147483647) (hMem : MrMem (jf s 1001 (M + 1)) (jf t 1000 (U + 3))) (hSeg : MrSeg M (jf s 35) (jf t 1000 (U + 5)) (jf t 1000 (U + 6)) (jf t 1000 (U + 7))) :
    jE2 (m_X29_taken s M) (m_X43_isFetched t U) (MT s M t U) := by
  rw [em_X29_taken, em_X43_isFetched]; unfold dm_X29_taken dm_X43_isFetched
  obtain ⟨ρ, hρ⟩ := p_rho hSeg
  have eb : L_and (jf t 47 U 11) 4294967295 = jf t 47 U 11 % 4294967296 := L_and_4294967295 _
  rw [hpc]
  simp only [e_X43_bare, eb, Option.bind_some, L_cmp_lt]
  rcases p_fetch2 hρ hr rfl with ⟨x, h1, h2, h3⟩ | ⟨h0, h1, h2, h3⟩
  · rw [h1, h2, s_fails]
    simp only [Option.bind_some, Wz_0, s_fail]
    rw [if_pos trivial, if_neg (by omega)]
    exact jE2_some.mpr (.inl ⟨rfl, rfl, s, t, 1, L2i x, Cw.rfl, Tw.rfl, by omega, rfl, rfl⟩)
  rw [h2, h3]
  simp only [Option.bind_some, Wz_1, show ((1 : Int) = 0) = False by simp, show ((-1 : Int) < 0) = True by simp, if_true, if_false, hpc]
  have hB : ∀ k, 0 ≤ k → k < 131072 → 0 ≤ jf t 1000 (U + 3) k ∧ jf t 1000 (U + 3) k < 256 := fun k k0 k1 => ⟨(hMem k k0 k1).1, (hMem k k0 k1).2.1⟩
  have hf2 : m_X43_fetched t U (jf t 47 U 11) 2 = some (W32 (fet (jf t 1000 (U + 3)) (jf t 47 U 11) 2)) := s_X43_fetched 2 hB h0 (by omega) (by omega)
  have hb := fet_b (B := jf t 1000 (U + 3)) (a := jf t 47 U 11) 2 (fun j j0 j1 => hB j (by omega) (by omega))
  have e16 : (256 : Int) ^ 2 = 65536 := rfl
  rw [e16] at hb
  rw [hf2, s_X29_half hMem h0 h1, W32_in (z := fet (jf t 1000 (U + 3)) (jf t 47 U 11) 2) (by omega) (by omega)]
  generalize hw : fet (jf t 1000 (U + 3)) (jf t 47 U 11) 2 = w at *
  simp only [Option.bind_some, I_and_3, e_X43_isLong]
  by_cases c : w % 4 = 3
  · simp only [if_pos c, show ((1 : Int) = 0) = False by simp, if_false]
    simp only [eu_X29_taken_38, du_X29_taken_38, eu_X43_isFetched_57, du_X43_isFetched_57, jls, jp_47, e_X43_bare]
    have e5 : jf (jp s 34 (M + 9) 5 4) 34 (M + 9) 5 = 4 := by rw [jf_jp, if_pos ⟨rfl, rfl, rfl⟩]
    have e10 : jf (jp s 34 (M + 9) 5 4) 33 M 10 = jf t 47 U 11 := by rw [jf_jp, if_neg (by omega), hpc]
    rw [e5, e10, if_neg (by omega), if_pos trivial]
    have hMem' : MrMem (jf (jp s 34 (M + 9) 5 4) 1001 (M + 1)) (jf (jp t 47 U 25 4) 1000 (U + 3)) := by simp only [eq_self, or_true, true_or, or_false, false_or, jfc_jp, jupp_p, jup_a, Int.add_right_inj, Int.add_left_inj, Int.reduceEq, if_true, if_false, true_and, and_true, false_and, and_false, reduceIte]; exact hMem
    have hSeg' : MrSeg M (jf (jp s 34 (M + 9) 5 4) 35) (jf (jp t 47 U 25 4) 1000 (U + 5)) (jf (jp t 47 U 25 4) 1000 (U + 6)) (jf (jp t 47 U 25 4) 1000 (U + 7)) := by simp only [eq_self, or_true, true_or, or_false, false_or, jfc_jp, jupp_p, jup_a, Int.add_right_inj, Int.add_left_inj, Int.reduceEq, if_true, if_false, true_and, and_true, false_and, and_false, reduceIte]; exact hSeg
    obtain ⟨ρ', hρ'⟩ := p_rho hSeg'
    have a2 : W32 (jf t 47 U 11 + 2) = jf t 47 U 11 + 2 := W32_in (by omega) (by omega)
    have b2 : W64 (jf t 47 U 11 % 4294967296 + 2) = (jf t 47 U 11 + 2) % 4294967296 := by rw [W64_in (by omega) (by omega)]; omega
    rw [a2, b2]
    have hg11 : jf (jp t 47 U 25 4) 47 U 11 = jf t 47 U 11 := by rw [jf_jp, if_neg (by omega)]
    rcases p_fetch2 hρ' (a := jf t 47 U 11 + 2) (by omega) rfl with ⟨x, g1, g2, g3⟩ | ⟨g0, g1, g2, g3⟩
    · rw [g1, g2, s_fails]
      simp only [Option.bind_some, Wz_0, s_fail, L_cmp_lt]
      rw [if_pos trivial, if_neg (by omega)]
      exact jE2_some.mpr (.inl ⟨rfl, rfl, _, _, 1, L2i x, Cw.rfl.word, Tw.rfl.f (by omega) (by omega), by omega, rfl, rfl⟩)
    rw [g2, g3]
    simp only [Option.bind_some, Wz_1, show ((1 : Int) = 0) = False by simp, show ((-1 : Int) < 0) = True by simp, if_true, if_false, L_cmp_lt, e10, hg11, a2]
    have hB' : ∀ k, 0 ≤ k → k < 131072 → 0 ≤ jf (jp t 47 U 25 4) 1000 (U + 3) k ∧ jf (jp t 47 U 25 4) 1000 (U + 3) k < 256 := fun k k0 k1 => ⟨(hMem' k k0 k1).1, (hMem' k k0 k1).2.1⟩
    have hf4 : m_X43_fetched (jp t 47 U 25 4) U (jf t 47 U 11) 4 = some (W32 (fet (jf (jp t 47 U 25 4) 1000 (U + 3)) (jf t 47 U 11) 4)) := s_X43_fetched 4 hB' h0 (by omega) (by omega)
    have hh := s_X29_half hMem' g0 g1
    have ef : jf (jp t 47 U 25 4) 1000 (U + 3) = jf t 1000 (U + 3) := by simp only [eq_self, or_true, true_or, or_false, false_or, jfc_jp, jupp_p, jup_a, Int.add_right_inj, Int.add_left_inj, Int.reduceEq, if_true, if_false, true_and, and_true, false_and, and_false, reduceIte]
    rw [ef] at hf4 hh
    rw [hf4, hh]
    have hb2 := fet_b (B := jf t 1000 (U + 3)) (a := jf t 47 U 11 + 2) 2 (fun j j0 j1 => hB j (by omega) (by omega))
    rw [e16] at hb2
    simp only [Option.bind_some]
    have ew : I_or w (I_shl (fet (jf t 1000 (U + 3)) (jf t 47 U 11 + 2) 2) 16) = W32 (fet (jf t 1000 (U + 3)) (jf t 47 U 11) 4) := by
      rw [i_shl_p (by omega) (by omega), I_or_lo 16 (by omega) hb.1 hb.2 (by rw [W32_mod_p _ _ (by omega)]; show _ * 65536 % 65536 = 0; omega)]
      apply W32_cong
      have := W32_mod (fet (jf t 1000 (U + 3)) (jf t 47 U 11 + 2) 2 * 2 ^ (16 : Int).toNat)
      have e17 : (2 : Int) ^ (16 : Int).toNat = 65536 := rfl
      rw [e17] at this ⊢
      rw [fet_4, hw]
      omega
    rw [ew]
    have hW : W32 (fet (jf t 1000 (U + 3)) (jf t 47 U 11) 4) % 4 = 3 := by
      have q1 := W32_mod (fet (jf t 1000 (U + 3)) (jf t 47 U 11) 4)
      have q2 := fet_4 (jf t 1000 (U + 3)) (jf t 47 U 11)
      rw [hw] at q2
      omega
    have hK' : MrK (jp s 34 (M + 9) 5 4) M := hK
    rw [s_takeLong _ _ _ hK'.w (W32_lo _)]
    simp only [Option.bind_some]
    have hd : cLong (W32 (fet (jf t 1000 (U + 3)) (jf t 47 U 11) 4)) = cDec (0, 0, 0, 0) (W32 (fet (jf t 1000 (U + 3)) (jf t 47 U 11) 4)) := by unfold cDec; rw [if_pos hW]
    rw [hd]
    refine jE2_mono (p_word hK' (pRows_jp hP) (by rw [e10, hg11]) (W32_lo _) (fun q => absurd hW q) (by rw [e5, jp_47]) (by rw [jp_47]; exact .inr rfl)) fun r q h => h.of Cw.rfl.word (Tw.rfl.f (by omega) (by omega))
  · simp only [if_neg c, if_true]
    simp only [eu_X29_taken_38, du_X29_taken_38, eu_X43_isFetched_57, du_X43_isFetched_57, jls, jp_47]
    have e5 : jf (jp s 34 (M + 9) 5 2) 34 (M + 9) 5 = 2 := by rw [jf_jp, if_pos ⟨rfl, rfl, rfl⟩]
    have hK' : MrK (jp s 34 (M + 9) 5 2) M := hK
    rw [e5, if_pos rfl, if_neg (by omega), s_takeShort _ _ _ hK'.w hb.1 hb.2]
    simp only [Option.bind_some]
    have hd : cShort (pOld (jp s 34 (M + 9) 5 2) (M + 9)) w = cDec (pOld (jp s 34 (M + 9) 5 2) (M + 9)) w := by unfold cDec; rw [if_neg c]
    rw [hd]
    refine jE2_mono (p_word hK' (pRows_jp hP) (by rw [jf_jp, if_neg (by omega), jf_jp, if_neg (by omega), hpc]) (by omega) (fun _ => hb) (by rw [e5, jp_47]) (by rw [jp_47]; exact .inl rfl)) fun r q h => h.of Cw.rfl.word (Tw.rfl.f (by omega) (by omega))
end jMtaken
