/-! the component's image: its sum, its marks -/
section jIimg3
variable {s t u w : jS} {B N R n p f a b x y e k z v d lo m S : Int} {g g' : Int → Int} {i j : Int → Int → Int → Int} {L : List (Prop × Int × Int)} {c : Prop} {F : Int → Int}
/-- the sum alone has changed -/
def fSu (u t : jS) (S v : Int) : Prop := jFx u t S 1 ∧ jf t 31 S 0 = v ∧ ∀ c a k, ¬ (c = 31 ∧ a = S ∧ k = 0) → jf t c a k = jf u c a k
theorem fSu.jp {v' : Int} (h : fSu u t S v) : fSu u (jp t 31 S 0 v') S v' := ⟨h.1.jp rfl (by omega) (by omega), jf_pos ⟨rfl, rfl, rfl⟩, fun c' a' k' p => by rw [jf_jp, if_neg p]; exact h.2.2 c' a' k' p⟩
theorem fSu.then {v' : Int} (h : fSu u t S v) (g : fSu t w S v') : fSu u w S v' := ⟨h.1.trans g.1, g.2.1, fun c a k p => (g.2.2 c a k p).trans (h.2.2 c a k p)⟩
theorem i_take : jE (m_X27_take u S z) fun q => fSu u q.1 S (crB (jf u 31 S 0) z) := by
  rw [em_X27_take]; unfold dm_X27_take
  rw [eu_X27_take_2]; unfold du_X27_take_2
  refine jS_for (fun k t => fSu u t S (crK z k.toNat (jf u 31 S 0))) (fun k => [S, z, k]) 0 8 (by omega) ⟨jFx.rfl, rfl, fun _ _ _ _ => rfl⟩ (fun k t k0 k1 ht => ?_) (fun t ht => ?_)
  · show jE (b_X27_take_2 t S z k) _
    unfold b_X27_take_2
    have e27 : ∀ y, u_X27_take_27 t S z k y = some (.inl (jp t 31 S 0 (I_xor (I_ushr (jf t 31 S 0) 1) (if y = 0 then 0 else -306674912)), [S, z, k + 1])) := fun y => by
      rw [eu_X27_take_27]; unfold du_X27_take_27
      have e45 : ∀ a, u_X27_take_45 t S z k a (I_ushr (jf t 31 S 0) 1) S = some (.inl (jp t 31 S 0 (I_xor (I_ushr (jf t 31 S 0) 1) a), [S, z, k + 1])) := fun a => by
        rw [eu_X27_take_45]; unfold du_X27_take_45
        simp only [jls]
        rw [W32_in (by omega) (by omega)]
      by_cases c : y = 0
      · rw [if_pos c, if_pos c, e45]
      · rw [if_neg c, if_neg c, e45]
    rw [if_pos k1, e27, e27, show (k + 1).toNat = k.toNat + 1 by omega]
    have ek : crK z (k.toNat + 1) (jf u 31 S 0) = crS (crK z k.toNat (jf u 31 S 0)) z (k.toNat : Nat) := rfl
    rw [ek, nt k0, ← ht.2.1]
    unfold crS
    by_cases c : I_and (I_xor (jf t 31 S 0) (I_shr z k)) 1 = 1
    · rw [if_pos c, if_pos c]; exact jS_end ⟨rfl, ht.jp⟩
    · rw [if_neg c, if_neg c]; exact jS_end ⟨rfl, ht.jp⟩
  · show jE (b_X27_take_2 t S z 8) _
    unfold b_X27_take_2
    rw [if_neg (by omega)]
    exact jS_inr (jS_end ht)
theorem i_take4 : jE (m_X27_take4 u S z) fun q => fSu u q.1 S (crN (jf u 31 S 0) z) := by
  rw [em_X27_take4]; unfold dm_X27_take4
  rw [eu_X27_take4_2]; unfold du_X27_take4_2
  refine jS_for (fun k t => fSu u t S (crF (fun k => I_and (I_shr z (8 * k)) 255) k.toNat (jf u 31 S 0))) (fun k => [S, z, 8 * k]) 0 4 (by omega) ⟨jFx.rfl, rfl, fun _ _ _ _ => rfl⟩ (fun k t k0 k1 ht => ?_) (fun t ht => ?_)
  · show jE (b_X27_take4_2 t S z (8 * k)) _
    unfold b_X27_take4_2
    rw [if_pos (by omega)]
    refine jS_call i_take fun q hq => ?_
    rw [W32_in (by omega) (by omega), show 8 * k + 8 = 8 * (k + 1) by omega, show (k + 1).toNat = k.toNat + 1 by omega]
    refine jS_end ⟨rfl, ?_⟩
    rw [show crF (fun k => I_and (I_shr z (8 * k)) 255) (k.toNat + 1) (jf u 31 S 0) = crB (crF (fun k => I_and (I_shr z (8 * k)) 255) k.toNat (jf u 31 S 0)) (I_and (I_shr z (8 * (k.toNat : Nat))) 255) from rfl, nt k0, ← ht.2.1]
    exact ht.then hq
  · show jE (b_X27_take4_2 t S z (8 * 4)) _
    unfold b_X27_take4_2
    rw [if_neg (by omega)]
    exact jS_inr (jS_end ht)
theorem or_st : ∀ {k a f : Int}, 0 ≤ k → k < 8 → 0 ≤ a → a < 2 ^ k.toNat → f = 0 ∨ f = 1 → I_or a (if f = 0 then 0 else I_shl 1 k) = a + f * 2 ^ k.toNat ∧ a + f * 2 ^ k.toNat < 2 ^ (k + 1).toNat ∧ 0 ≤ a + f * 2 ^ k.toNat := by
  intro k a f k0 k1 a0 a1 hf
  have e1 : I_shl 1 k = W32 (1 * 2 ^ k.toNat) := i_shl_p (by omega) (by omega)
  have : k = 0 ∨ k = 1 ∨ k = 2 ∨ k = 3 ∨ k = 4 ∨ k = 5 ∨ k = 6 ∨ k = 7 := by omega
  have key : ∀ (m : Nat) (P : Int), P = 2 ^ m → P ≤ 128 → m ≤ 7 → 0 ≤ a → a < P → I_or a (if f = 0 then 0 else W32 (1 * P)) = a + f * P := fun m P hP hP2 hm b0 b1 => by
    have p0 : (0 : Int) < 2 ^ m := Int.pow_pos (by decide)
    rcases hf with rfl | rfl
    · rw [if_pos rfl, I_or_lo m (by omega) b0 (by rw [← hP]; exact b1) (Int.zero_emod _), W32_in (by omega) (by omega)]; omega
    · rw [if_neg (by decide), W32_in (z := 1 * P) (by omega) (by omega), I_or_lo m (by omega) b0 (by rw [← hP]; exact b1) (by rw [Int.one_mul, hP]; exact Int.emod_self), W32_in (by omega) (by omega)]
  rw [e1]
  rcases this with e | e | e | e | e | e | e | e <;> subst e
  · exact ⟨key 0 1 rfl (by omega) (by omega) a0 a1, by have : a < 1 := a1; show a + f * 1 < 2; omega, by show 0 ≤ a + f * 1; omega⟩
  · exact ⟨key 1 2 rfl (by omega) (by omega) a0 a1, by have : a < 2 := a1; show a + f * 2 < 4; omega, by show 0 ≤ a + f * 2; omega⟩
  · exact ⟨key 2 4 rfl (by omega) (by omega) a0 a1, by have : a < 4 := a1; show a + f * 4 < 8; omega, by show 0 ≤ a + f * 4; omega⟩
  · exact ⟨key 3 8 rfl (by omega) (by omega) a0 a1, by have : a < 8 := a1; show a + f * 8 < 16; omega, by show 0 ≤ a + f * 8; omega⟩
  · exact ⟨key 4 16 rfl (by omega) (by omega) a0 a1, by have : a < 16 := a1; show a + f * 16 < 32; omega, by show 0 ≤ a + f * 16; omega⟩
  · exact ⟨key 5 32 rfl (by omega) (by omega) a0 a1, by have : a < 32 := a1; show a + f * 32 < 64; omega, by show 0 ≤ a + f * 32; omega⟩
  · exact ⟨key 6 64 rfl (by omega) (by omega) a0 a1, by have : a < 64 := a1; show a + f * 64 < 128; omega, by show 0 ≤ a + f * 64; omega⟩
  · exact ⟨key 7 128 rfl (by omega) (by omega) a0 a1, by have : a < 128 := a1; show a + f * 128 < 256; omega, by show 0 ≤ a + f * 128; omega⟩
/-- a byte of marks so far -/
def mkP (F : Int → Int) (k : Int) : Nat → Int
  | 0 => 0
  | m + 1 => mkP F k m + F (8 * k + m) * 2 ^ m
theorem mkP_8 : mkP F k 8 = mkB F k := by
  show 0 + F (8 * k + (0 : Nat)) * 1 + F (8 * k + (1 : Nat)) * 2 + F (8 * k + (2 : Nat)) * 4 + F (8 * k + (3 : Nat)) * 8 + F (8 * k + (4 : Nat)) * 16 + F (8 * k + (5 : Nat)) * 32 + F (8 * k + (6 : Nat)) * 64 + F (8 * k + (7 : Nat)) * 128 = mkB F k
  unfold mkB
  rw [show 8 * k + ((0 : Nat) : Int) = 8 * k by omega]
  simp only [show ((1 : Nat) : Int) = 1 from rfl, show ((2 : Nat) : Int) = 2 from rfl, show ((3 : Nat) : Int) = 3 from rfl, show ((4 : Nat) : Int) = 4 from rfl, show ((5 : Nat) : Int) = 5 from rfl, show ((6 : Nat) : Int) = 6 from rfl, show ((7 : Nat) : Int) = 7 from rfl]
  omega
theorem mkP_lo (hF : ∀ k, 0 ≤ k → k < 2048 → F k = 0 ∨ F k = 1) (k0 : 0 ≤ k) (k1 : k < 256) (m : Nat) (hm : m ≤ 8) : 0 ≤ mkP F k m ∧ mkP F k m < 2 ^ m := by
  induction m with
  | zero => exact ⟨Int.le_refl _, by show (0 : Int) < 1; omega⟩
  | succ m ih =>
    obtain ⟨h1, h2⟩ := ih (by omega)
    have := or_st (k := (m : Int)) (a := mkP F k m) (f := F (8 * k + m)) (by omega) (by omega) h1 h2 (hF _ (by omega) (by omega))
    rw [show ((m : Int) + 1).toNat = m + 1 by omega, show (m : Int).toNat = m by omega] at this
    exact ⟨this.2.2, this.2.1⟩
theorem i_markByte (h : cIm u b i) (v : vIm i) (k0 : 0 ≤ k) (k1 : k < 256) : m_X23_markByte u b k = some (mkB (fun k => i 3 k 0) k) := by
  rw [em_X23_markByte]; unfold dm_X23_markByte
  rw [eu_X23_markByte_4]; unfold du_X23_markByte_4
  refine jforR (fun m => [b, k, mkP (fun k => i 3 k 0) k m.toNat, m]) 0 8 (by omega) (fun m m0 m1 => ?_) ?_
  · show b_X23_markByte_4 u b k _ m = _
    unfold b_X23_markByte_4
    have h3 := h.2.2.2.1 (8 * k + m) (by omega) (by omega)
    have v3 := v.2.2.2 (8 * k + m) (by omega) (by omega)
    have hp := mkP_lo (F := fun k => i 3 k 0) v.2.2.2 k0 k1 m.toNat (by omega)
    have os := or_st m0 m1 hp.1 hp.2 v3
    have e44 : ∀ y, u_X23_markByte_44 u b k m y (mkP (fun k => i 3 k 0) k m.toNat) = some (.inl [b, k, I_or (mkP (fun k => i 3 k 0) k m.toNat) y, m + 1]) := fun y => by
      rw [eu_X23_markByte_44]; unfold du_X23_markByte_44
      simp only [jlet]
      rw [W32_in (by omega) (by omega)]
    have e1 : mkP (fun k => i 3 k 0) k (m + 1).toNat = I_or (mkP (fun k => i 3 k 0) k m.toNat) (if i 3 (8 * k + m) 0 = 0 then 0 else I_shl 1 m) := by
      rw [os.1, show (m + 1).toNat = m.toNat + 1 by omega]
      show mkP (fun k => i 3 k 0) k m.toNat + i 3 (8 * k + (m.toNat : Nat)) 0 * 2 ^ m.toNat = _
      rw [nt m0]
    rw [if_pos m1, W32_in (z := 8 * k) (by omega) (by omega), W32_in (by omega) (by omega), if_pos (by omega), jlt_in (by omega) (by omega), Option.bind_some, h3, e44, e44, e1]
    by_cases c : i 3 (8 * k + m) 0 = 0
    · rw [if_pos c, if_pos c]
    · rw [if_neg c, if_neg c]
  · show b_X23_markByte_4 u b k _ 8 = _
    unfold b_X23_markByte_4
    rw [if_neg (by omega), show mkP (fun k => i 3 k 0) k (8 : Int).toNat = mkB (fun k => i 3 k 0) k from mkP_8]
theorem i_markBytes (T : jTt u 43 b) (h : cIm u b i) (v : vIm i) (c : ¬ i 1 0 0 = 0) : m_X23_markBytes u b = some (mkN i) ∧ 0 ≤ mkN i ∧ mkN i ≤ 256 := by
  obtain ⟨t1, t2, t3⟩ := i_text T
  obtain ⟨a1, a2, a3, -⟩ := (h.1 0 (by omega) (by omega)).2 c
  have := (v.1 0 (by omega) (by omega)).2 c
  unfold mkN
  rw [if_neg c]
  refine ⟨?_, by omega, by omega⟩
  rw [em_X23_markBytes]; unfold dm_X23_markBytes
  rw [t1, Option.bind_some, jrd_in t2 t3, Option.bind_some, a2, jdv_in (by decide), Option.bind_some, W32_in (by omega) (by omega), I_div_n (by omega) (by omega) (by omega) (by omega)]
theorem cIm.su (h : cIm u b i) (k : fSu u t S v) (d : S < b ∨ b + 9 ≤ S) : cIm t b i := h.kf k.1 (by omega)
theorem i_sum (T : jTt u 43 b) (TS : jTt u 47 S) (h : cIm u b i) (vi : vIm i) (d : S < b ∨ b + 9 ≤ S) : jE (m_X23_sum u b S) fun q => q.2 = sumI i ∧ ∃ v, fSu u q.1 S v := by
  rw [em_X23_sum]; unfold dm_X23_sum
  rw [jct_in TS]
  have e0 : m_X27_begin u S = some (jp u 31 S 0 (-1), 0) := by rw [em_X27_begin]; rfl
  rw [e0, Option.bind_some]
  have k0 : fSu u (jp u 31 S 0 (-1)) S (-1) := fSu.jp (t := u) (v := jf u 31 S 0) ⟨jFx.rfl, rfl, fun _ _ _ _ => rfl⟩
  dsimp only
  rw [jct_in (TS.ext k0.1.2)]
  refine jS_call i_take4 fun q hq => ?_
  have k1 := k0.then hq
  rw [k0.2.1, k0.2.2 _ _ _ (by omega), h.2.1] at k1
  generalize q.1 = t1 at k1 ⊢
  clear hq q
  rw [eu_X23_sum_23]; unfold du_X23_sum_23
  refine jS_for (fun x t => fSu u t S (if x = 0 then crN (-1) (i 2 0 0) else if x = 1 then crG i 0 (crN (-1) (i 2 0 0)) else if x = 2 then crG i 1 (crG i 0 (crN (-1) (i 2 0 0))) else crG i 2 (crG i 1 (crG i 0 (crN (-1) (i 2 0 0)))))) (fun x => [b, S, b + 1, 3, x]) 0 3 (by omega) k1 (fun x t x0 x1 ht => ?_) (fun t ht => ?_)
  · show jE (b_X23_sum_23 t b S (b + 1) 3 x) _
    unfold b_X23_sum_23
    have I := h.su ht d
    have hx := I.1 x x0 x1
    have e99 : ∀ t, u_X23_sum_99 t b S (b + 1) 3 x = some (.inl (t, [b, S, b + 1, 3, x + 1])) := fun t => by
      rw [eu_X23_sum_99]; unfold du_X23_sum_99
      rw [W32_in (by omega) (by omega)]
    generalize hC : (if x = 0 then crN (-1) (i 2 0 0) else if x = 1 then crG i 0 (crN (-1) (i 2 0 0)) else if x = 2 then crG i 1 (crG i 0 (crN (-1) (i 2 0 0))) else crG i 2 (crG i 1 (crG i 0 (crN (-1) (i 2 0 0))))) = K at ht
    have nx : (if x + 1 = 0 then crN (-1) (i 2 0 0) else if x + 1 = 1 then crG i 0 (crN (-1) (i 2 0 0)) else if x + 1 = 2 then crG i 1 (crG i 0 (crN (-1) (i 2 0 0))) else crG i 2 (crG i 1 (crG i 0 (crN (-1) (i 2 0 0))))) = crG i x K := by
      have : x = 0 ∨ x = 1 ∨ x = 2 := by omega
      rcases this with e | e | e <;> subst e <;> rw [← hC] <;> rfl
    rw [nx, if_pos x1, jix_in x0 x1, Option.bind_some, show b + 1 + 2 + 2 * x = vsg b x from rfl, hx.1]
    unfold crG
    by_cases c : i 1 x 0 = 0
    · rw [if_pos c, if_pos c, e99]; exact jS_end ⟨rfl, ht⟩
    · rw [if_neg c, if_neg c]
      obtain ⟨a1, a2, a3, a4⟩ := hx.2 c
      have hv := (vi.1 x x0 x1).2 c
      rw [jct_in (TS.ext ht.1.2), a1]
      refine jS_call i_take4 fun q hq => ?_
      have k2 := ht.then hq
      rw [ht.2.1] at k2
      have a3' : jf q.1 28 (vsg b x) 5 = i 1 x 3 := by rw [hq.2.2 _ _ _ (by omega)]; exact a3
      rw [jct_in (TS.ext k2.1.2), a3']
      generalize q.1 = t2 at k2 ⊢
      clear hq a3' q
      refine jS_call i_take4 fun q hq => ?_
      have k3 := k2.then hq
      rw [k2.2.1] at k3
      generalize q.1 = t3 at k3 ⊢
      clear hq q
      rw [eu_X23_sum_67]; unfold du_X23_sum_67
      refine jS_for (fun m t => fSu u t S (crF (fun k => i 0 x k) m.toNat (crN (crN K (i 1 x 1)) (i 1 x 3)))) (fun m => [b, S, b + 1, 3, x, vsg b x, m]) 0 (i 1 x 2) (by omega) k3 (fun m t m0 m1 ht => ?_) (fun t ht => ?_)
      · show jE (b_X23_sum_67 t b S (b + 1) 3 x (vsg b x) m) _
        unfold b_X23_sum_67
        have I := h.su ht d
        obtain ⟨b1, b2, b3, b4⟩ := (I.1 x x0 x1).2 c
        have hb := hv.2.2.2.2.2.2 m m0 m1
        rw [b2, if_pos m1, jlt_in m0 (by omega), Option.bind_some, b4 m m0 m1, sb_and hb.1 hb.2, jct_in (TS.ext ht.1.2)]
        refine jS_call i_take fun q hq => ?_
        rw [W32_in (by omega) (by omega), show (m + 1).toNat = m.toNat + 1 by omega]
        refine jS_end ⟨rfl, ?_⟩
        rw [show crF (fun k => i 0 x k) (m.toNat + 1) (crN (crN K (i 1 x 1)) (i 1 x 3)) = crB (crF (fun k => i 0 x k) m.toNat (crN (crN K (i 1 x 1)) (i 1 x 3))) (i 0 x (m.toNat : Nat)) from rfl, nt m0, ← ht.2.1]
        exact ht.then hq
      · show jE (b_X23_sum_67 t b S (b + 1) 3 x (vsg b x) (i 1 x 2)) _
        unfold b_X23_sum_67
        have I := h.su ht d
        obtain ⟨b1, b2, b3, b4⟩ := (I.1 x x0 x1).2 c
        rw [b2, if_neg (by omega), e99]
        exact jS_inr (jS_end ⟨rfl, ht⟩)
  · show jE (b_X23_sum_23 t b S (b + 1) 3 3) _
    unfold b_X23_sum_23
    rw [if_neg (by omega), eu_X23_sum_105]; unfold du_X23_sum_105
    refine jS_inr ?_
    have ht : fSu u t S (crG i 2 (crG i 1 (crG i 0 (crN (-1) (i 2 0 0))))) := ht
    unfold sumI
    generalize crG i 2 (crG i 1 (crG i 0 (crN (-1) (i 2 0 0)))) = K at ht ⊢
    have e140 : ∀ {t}, jTt t 47 S → u_X23_sum_140 t S = some (t, I_xor (jf t 31 S 0) (-1)) := fun ht => by
      rw [eu_X23_sum_140]; unfold du_X23_sum_140
      rw [jct_in ht, e_X27_end, Option.bind_some]
    rw [eu_X23_sum_107]; unfold du_X23_sum_107
    have mN : 0 ≤ mkN i ∧ mkN i ≤ 256 := by
      by_cases c : i 1 0 0 = 0
      · unfold mkN; rw [if_pos c]; omega
      · exact (i_markBytes T h vi c).2
    refine jS_for (fun m t => fSu u t S (crF (mkB fun k => i 3 k 0) m.toNat K)) (fun m => [b, S, m]) 0 (mkN i) mN.1 ht (fun m t m0 m1 ht => ?_) (fun t ht => ?_)
    · show jE (b_X23_sum_107 t b S m) _
      unfold b_X23_sum_107
      have I := h.su ht d
      have TT := T.ext ht.1.2
      obtain ⟨t1, t2, t3⟩ := i_text TT
      have c : ¬ i 1 0 0 = 0 := fun z => by unfold mkN at m1; rw [if_pos z] at m1; omega
      rw [t1, Option.bind_some, jrd_in t2 t3, Option.bind_some, (I.1 0 (by omega) (by omega)).1, if_neg c, (i_markBytes TT I vi c).1, Option.bind_some, if_pos m1, i_markByte I vi m0 (by omega), Option.bind_some, jct_in (TS.ext ht.1.2)]
      refine jS_call i_take fun q hq => ?_
      rw [W32_in (by omega) (by omega), show (m + 1).toNat = m.toNat + 1 by omega]
      refine jS_end ⟨rfl, ?_⟩
      rw [show crF (mkB fun k => i 3 k 0) (m.toNat + 1) K = crB (crF (mkB fun k => i 3 k 0) m.toNat K) (mkB (fun k => i 3 k 0) (m.toNat : Nat)) from rfl, nt m0, ← ht.2.1]
      exact ht.then hq
    · show jE (b_X23_sum_107 t b S (mkN i)) _
      unfold b_X23_sum_107
      have I := h.su ht d
      have TT := T.ext ht.1.2
      obtain ⟨t1, t2, t3⟩ := i_text TT
      rw [t1, Option.bind_some, jrd_in t2 t3, Option.bind_some, (I.1 0 (by omega) (by omega)).1]
      by_cases c : i 1 0 0 = 0
      · rw [if_pos c, e140 (TS.ext ht.1.2)]
        exact jS_inr (jS_end ⟨by rw [ht.2.1], _, ht⟩)
      · rw [if_neg c, (i_markBytes TT I vi c).1, Option.bind_some, if_neg (by omega), e140 (TS.ext ht.1.2)]
        exact jS_inr (jS_end ⟨by rw [ht.2.1], _, ht⟩)
end jIimg3
