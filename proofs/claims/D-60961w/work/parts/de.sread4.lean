/-! the twin reads a file of an image: marks, the sum -/
section jSread4
variable {s t u w : jS} {X n p f a b x y e k v z : Int} {g g' : Int → Int} {L : List (Prop × Int × Int)} {c : Prop} {F F' : Int → Int}
/-- marks that are good so far -/
def sG (g : Int → Int) : Prop := ¬ jw' g 0 = -1 ∧ 0 < nT g ∧ nT g % 2 = 0 ∧ nT g ≤ 4096 ∧ ¬ jw' g 3 = -1 ∧ 28 ≤ nZ g ∧ nZ g = 28 + ((nT g + 15) / 16 + 3) / 4 * 4 ∧ 52 ≤ nP g ∧ (∀ k j, 0 ≤ k → k < nZ g - 28 → 0 ≤ j → j < 8 → bt8 (g (nP g + 28 + k)) j = 0 ∨ 8 * k + j < nT g / 2)
theorem s_G (h : sX s u X g n) (h1 : Gd (JSegs g)) (h3 : ¬ jw' g 3 = -1) (h2 : Gd (JNa g)) : sG g ∧ nP g + nZ g ≤ n := by
  have hn := h.1.n8
  unfold JSegs at h1
  rw [Gd_cons] at h1
  obtain ⟨⟨c0, T0, T1⟩, -⟩ := h1
  unfold JNa at h2
  simp only [Gd_cons, Gd_app] at h2
  obtain ⟨z1, -, -, -, -, -, z2, z3, -⟩ := h2
  obtain ⟨n1, n2, n3, n4⟩ := jw_lo h.2.2.2.1 h3
  obtain ⟨r1, r2, -, -⟩ := h.2.2.2.2 _ n1 n2 n3
  have T2 := (jw_seg h.2.2.2.1 h.2.2.2.2 h.1.2.1 hn (x := 0) (by omega) (by omega) c0).2.2.2.2.2.2.1
  change nP g + nZ g ≤ n at r1
  change nZ g = 0 ∨ 52 ≤ nP g at r2
  exact ⟨⟨c0, T0, T1, T2, h3, z1, z2, by omega, fun k j k0 k1 j0 j1 => (Gd_cons.mp (ckF_gd.mp (ckF_gd.mp z3 k k0 k1) j j0 j1)).1⟩, r1⟩
theorem s_isMark (h : sX s u X g n) (G : sG g) (hz : nP g + nZ g ≤ n) (k0 : 0 ≤ k) (k1 : 2 * k < nT g) : m_X42_isMarkIn u X (2 * k) = some (if mkG g k = 1 then 1 else 0) := by
  obtain ⟨g1, g2, g3, g4, g5, g6, g7, g8, g9⟩ := G
  have hn := h.1.n8
  have hby := h.1.2.1 (nP g + 28 + k / 8) (by omega) (by omega)
  rw [em_X42_isMarkIn]; unfold dm_X42_isMarkIn
  rw [h.rw (by omega) (by omega), Option.bind_some, h.nu g5 (by omega) (by omega), Option.bind_some, jdv_in (by decide), Option.bind_some, I_div_n (by omega) (by omega) (by omega) (by omega), show it g (jw' g 3) 1 = nP g from rfl, l2i_p, W32_in (z := nP g) (by omega) (by omega), W32_in (z := nP g + 28) (by omega) (by omega), show 2 * k / 16 = k / 8 by omega, W32_in (z := nP g + 28 + k / 8) (by omega) (by omega), s_u1 h.C (by omega) (by omega), Option.bind_some, jdv_in (by decide), Option.bind_some, I_rem_n (by omega) (by omega) (by omega) (by omega), jdv_in (by decide), Option.bind_some, I_div_n (by omega) (by omega) (by omega) (by omega), show 2 * k % 16 / 2 = k % 8 by omega, bt_8 hby (by omega) (by omega), Wz_0, Wz_1]
  have em : mkG g k = bt8 (g (nP g + 28 + k / 8)) (k % 8) := by unfold mkG; rw [if_pos ⟨k0, k1⟩]
  rw [em]
  by_cases c : bt8 (g (nP g + 28 + k / 8)) (k % 8) = 1
  · rw [if_pos c, if_pos c]
  · rw [if_neg c, if_neg c]
theorem s_isShort (h : sX s u X g n) (G : sG g) (k0 : 0 ≤ k) (k1 : 2 * k < nT g) : m_X42_isShortIn u X (2 * k) = some (if shI (iR g) k = true then 1 else 0) := by
  obtain ⟨g1, g2, g3, g4, g5, g6, g7, g8, g9⟩ := G
  have hn := h.1.n8
  obtain ⟨b1, b2, b3, b4, b5, b6, b7, b8, b9, b10⟩ := jw_seg h.2.2.2.1 h.2.2.2.2 h.1.2.1 hn (x := 0) (by omega) (by omega) g1
  have kT : 2 * k < it g (jw' g 0) 4 := k1
  rw [em_X42_isShortIn]; unfold dm_X42_isShortIn
  rw [h.rw (by omega) (by omega), Option.bind_some, h.nu g1 (by omega) (by omega), Option.bind_some, l2i_p, W32_in (z := it g (jw' g 0) 1) (by omega) (by omega), W32_in (by omega) (by omega), s_u1 h.C (by omega) (by omega), Option.bind_some, e_X42_isShort, Option.bind_some, I_and_3]
  have e : shI (iR g) k = decide (¬ g (it g (jw' g 0) 1 + 2 * k) % 4 = 3) := rfl
  rw [e]
  by_cases c : g (it g (jw' g 0) 1 + 2 * k) % 4 = 3
  · rw [if_neg (fun z => z c), if_neg (by simp [c]), Wz_0]
  · rw [if_pos c, if_pos (by simp [c]), Wz_1]
theorem s_marks (h : sX s u X g n) (G : sG g) (hz : nP g + nZ g ≤ n) : jE (m_X42_markFaults u X) (ckR (tOK fun t => t = u) (sBD s X) (J27 g ++ [(isMk (iR g) (W32 (r4 g 24)), 28, 24)])) := by
  obtain ⟨g1, g2, g3, g4, g5, g6, g7, g8, g9⟩ := id G
  have hn := h.1.n8
  have hr := h.2.1.1
  have h52 := h.2.2.2.1.1
  have v2 := h.lo g1 (k := 2) (by omega) (by omega)
  have b5 := (jw_seg h.2.2.2.1 h.2.2.2.2 h.1.2.1 hn (x := 0) (by omega) (by omega) g1).2.2.2.2.1
  rw [em_X42_markFaults]; unfold dm_X42_markFaults
  rw [h.rw (by omega) (by omega), Option.bind_some, h.nu g1 (by omega) (by omega), Option.bind_some, show it g (jw' g 0) 4 = nT g from rfl]
  simp only [jlet]
  rw [h.rw (by omega) (by omega), Option.bind_some, h.nu g5 (by omega) (by omega), Option.bind_some, show it g (jw' g 3) 1 = nP g from rfl, l2i_p, l2i_p, W32_in (z := nT g) (by omega) (by omega), W32_in (z := nP g) (by omega) (by omega), eu_X42_markFaults_28]; unfold du_X42_markFaults_28
  unfold J27
  refine jk_for (fun k => [(mkG g k = 0 ∨ shI (iR g) k = true ∨ 2 * k + 4 ≤ nT g ∧ mkG g (k + 1) = 0, 27, nP g + 28 + k / 8)]) (fun _ w => w = u) (fun k => [X, nT g, nP g, 2 * k]) 0 (nT g / 2) (by omega) rfl (fun k w k0 k1 _ e => ?_) fun w e _ => ?_
  · subst e
    show jE (b_X42_markFaults_28 w X _ _ (2 * k)) _
    unfold b_X42_markFaults_28
    have e85 : u_X42_markFaults_85 w X (nT g) (nP g) (2 * k) = some (.inl (w, [X, nT g, nP g, 2 * (k + 1)])) := by
      rw [eu_X42_markFaults_85]; unfold du_X42_markFaults_85
      rw [W32_in (by omega) (by omega), show 2 * k + 2 = 2 * (k + 1) by omega]
    have bad : ∀ q : Prop, ¬ q → jE (jinr (u_X42_markFaults_69 w X (nP g) (2 * k)) : Option ((jS × List Int) ⊕ (jS × Int))) (ckR (fun x => ∃ t, x = .inl (t, [X, nT g, nP g, 2 * (k + 1)]) ∧ t = w) (fun f p x => ∃ r, x = .inr r ∧ sBD s X f p r) [(q, 27, nP g + 28 + k / 8)]) := fun q hq => jk_no hq (by
      rw [eu_X42_markFaults_69]; unfold du_X42_markFaults_69
      rw [jdv_in (by decide), Option.bind_some, I_div_n (by omega) (by omega) (by omega) (by omega), show 2 * k / 16 = k / 8 by omega, W32_in (z := nP g + 28) (by omega) (by omega), W32_in (z := nP g + 28 + k / 8) (by omega) (by omega)]
      exact s_faultR hr (by omega))
    have m01 := mkG_01 (g := g) k
    rw [if_pos (by omega), s_isMark h G hz k0 (by omega), Option.bind_some, e85]
    by_cases c1 : mkG g k = 1
    rotate_left
    · rw [if_neg c1, if_pos rfl]
      exact jk_ok (.inl (by omega)) (jk_end (jS_end ⟨w, rfl, rfl⟩))
    rw [if_pos c1, if_neg (by decide), s_isShort h G k0 (by omega), Option.bind_some]
    by_cases c2 : shI (iR g) k = true
    · rw [if_pos c2, if_neg (by decide)]
      exact jk_ok (.inr (.inl c2)) (jk_end (jS_end ⟨w, rfl, rfl⟩))
    rw [if_neg c2, if_pos rfl, W32_in (z := 2 * k + 4) (by omega) (by omega)]
    by_cases c3 : nT g < 2 * k + 4
    · rw [if_pos c3]; exact bad _ fun z => by rcases z with z | z | z; omega; exact c2 z; omega
    rw [if_neg c3, W32_in (z := 2 * k + 2) (by omega) (by omega), show 2 * k + 2 = 2 * (k + 1) by omega, s_isMark h G hz (by omega) (by omega), Option.bind_some]
    have m01' := mkG_01 (g := g) (k + 1)
    by_cases c4 : mkG g (k + 1) = 1
    · rw [if_pos c4, if_neg (by decide)]; exact bad _ fun z => by rcases z with z | z | z; omega; exact c2 z; omega
    · rw [if_neg c4, if_pos rfl]
      exact jk_ok (.inr (.inr ⟨by omega, by omega⟩)) (jk_end (jS_end ⟨w, rfl, rfl⟩))
  · subst e
    show jE (b_X42_markFaults_28 w X _ _ (2 * (nT g / 2))) _
    unfold b_X42_markFaults_28
    rw [if_neg (by omega), eu_X42_markFaults_91]; unfold du_X42_markFaults_91
    refine jS_inr (jE_mono (?_ : jE _ (ckR (tOK fun t => t = w) (sBD s X) _)) fun r hr => ⟨r, rfl, hr⟩)
    have v24 := r4_lo h.1.2.1 (p := 24) (by omega) (by omega)
    rw [s_r4 h.C (by omega) (by omega), Option.bind_some, h.rw (by omega) (by omega), Option.bind_some, h.nu g1 (by omega) (by omega), Option.bind_some]
    simp only [jlet]
    rw [W64_in (by omega) (by omega)]
    have e142 : ∀ q : Prop, ¬ q → jE (u_X42_markFaults_142 w X) (ckR (tOK fun t => t = w) (sBD s X) [(q, 28, 24)]) := fun q hq => jk_no hq (by
      rw [eu_X42_markFaults_142]; unfold du_X42_markFaults_142
      exact s_fault hr (by omega))
    have q1 : iR g 1 0 1 = it g (jw' g 0) 2 := rfl
    have q2 : iR g 1 0 2 = nT g := rfl
    have q3 : ∀ k, iR g 3 k 0 = mkG g k := fun k => rfl
    unfold isMk
    rw [q1, q2, q3]
    simp only [L_cmp_lt, L_cmp_0]
    have big : ¬ r4 g 24 ≤ 2147483647 → W32 (r4 g 24) < 0 := fun hb => by
      have := W32_mod (r4 g 24)
      have := W32_lo (r4 g 24)
      omega
    by_cases c1 : r4 g 24 - it g (jw' g 0) 2 < 0
    · rw [if_pos c1, W32_in (by omega) (by omega)]; exact e142 _ fun z => by omega
    rw [if_neg c1]
    by_cases c2 : r4 g 24 - it g (jw' g 0) 2 < nT g
    rotate_left
    · rw [if_neg c2]
      refine e142 _ fun z => ?_
      by_cases hb : r4 g 24 ≤ 2147483647
      · rw [W32_in (by omega) hb] at z; omega
      · have := big hb; omega
    rw [if_pos c2, W32_in (z := r4 g 24) (by omega) (by omega), jdv_in (by decide), Option.bind_some, L_rem_n (by omega) (by omega) (by omega) (by omega)]
    by_cases c3 : (r4 g 24 - it g (jw' g 0) 2) % 2 = 0
    rotate_left
    · rw [if_neg c3]; exact e142 _ fun z => c3 z.2.2.1
    have ek : r4 g 24 - it g (jw' g 0) 2 = 2 * ((r4 g 24 - it g (jw' g 0) 2) / 2) := by omega
    have hm := s_isMark (k := (r4 g 24 - it g (jw' g 0) 2) / 2) h G hz (by omega) (by omega)
    rw [← ek] at hm
    rw [if_pos c3, l2i_p, W32_in (z := r4 g 24 - it g (jw' g 0) 2) (by omega) (by omega), hm, Option.bind_some]
    have m01 := mkG_01 (g := g) ((r4 g 24 - it g (jw' g 0) 2) / 2)
    by_cases c4 : mkG g ((r4 g 24 - it g (jw' g 0) 2) / 2) = 1
    · rw [if_pos c4, if_neg (by decide)]
      exact jk_ok ⟨by omega, by omega, c3, by omega⟩ (jk_end (jS_end ⟨rfl, rfl⟩))
    · rw [if_neg c4, if_pos rfl]; exact e142 _ fun z => by omega
/-- the sum alone has changed -/
def sSu (u t : jS) (X v : Int) : Prop := jSm u t ∧ jf t 46 X 15 = v ∧ ∀ c a k, ¬ (c = 46 ∧ a = X ∧ k = 15) → jf t c a k = jf u c a k
theorem sSu.rfl : sSu u u X (jf u 46 X 15) := ⟨jSm.rfl, Eq.refl _, fun _ _ _ _ => Eq.refl _⟩
theorem sSu.jp {v' : Int} (h : sSu u t X v) : sSu u (jp t 46 X 15 v') X v' := ⟨h.1.jp, jf_pos ⟨Eq.refl _, Eq.refl _, Eq.refl _⟩, fun c' a' k' p => by rw [jf_jp, if_neg p]; exact h.2.2 c' a' k' p⟩
theorem sSu.then {v' : Int} (h : sSu u t X v) (g : sSu t w X v') : sSu u w X v' := ⟨h.1.trans g.1, g.2.1, fun c a k p => (g.2.2 c a k p).trans (h.2.2 c a k p)⟩
theorem sSu.rd (h : sSu u t X v) : sRd u t X := ⟨h.1, fun c a k _ q => h.2.2 c a k (by omega)⟩
theorem sX.su (h : sX s u X g n) (k : sSu u t X v) : sX s t X g n := ⟨h.1, ⟨h.2.1.1.trans k.rd, by rw [k.2.2 _ _ _ (by omega)]; exact h.2.1.2.1, by rw [k.2.2 _ _ _ (by omega)]; exact h.2.1.2.2⟩, fun x x0 x1 => by rw [k.2.2 _ _ _ (by omega)]; exact h.2.2.1 x x0 x1, h.2.2.2⟩
theorem xor_0 (a : Int) : I_xor (I_ushr a 1) 0 = I_ushr a 1 := by
  rw [I_xor_eq, i_xor_bv]
  have h0 : BitVec.ofInt 32 0 = 0#32 := by decide
  rw [h0, BitVec.xor_zero]
  have : -2147483648 ≤ I_ushr a 1 ∧ I_ushr a 1 ≤ 2147483647 := by rw [i_ushr_p (by omega) (by omega)]; exact W32_lo _
  rw [BitVec.toInt_ofInt, Int.bmod_def]
  omega
theorem s_add : jE (m_X42_addByte u X z) fun q => sSu u q.1 X (crB (jf u 46 X 15) z) := by
  rw [em_X42_addByte]; unfold dm_X42_addByte
  rw [eu_X42_addByte_2]; unfold du_X42_addByte_2
  refine jS_for (fun k t => sSu u t X (crK z k.toNat (jf u 46 X 15))) (fun k => [X, z, k]) 0 8 (by omega) sSu.rfl (fun k t k0 k1 ht => ?_) (fun t ht => ?_)
  · show jE (b_X42_addByte_2 t X z k) _
    unfold b_X42_addByte_2
    have e45 : ∀ w, u_X42_addByte_45 w X z k = some (.inl (w, [X, z, k + 1])) := fun w => by
      rw [eu_X42_addByte_45]; unfold du_X42_addByte_45
      rw [W32_in (by omega) (by omega)]
    rw [if_pos k1, show (k + 1).toNat = k.toNat + 1 by omega]
    have ek : crK z (k.toNat + 1) (jf u 46 X 15) = crS (crK z k.toNat (jf u 46 X 15)) z (k.toNat : Nat) := rfl
    rw [ek, nt k0, ← ht.2.1]
    simp only [jlet, jls]
    rw [e45, e45]
    unfold crS
    by_cases c : I_and (I_xor (jf t 46 X 15) (I_shr z k)) 1 = 1
    · rw [if_pos c, if_pos c, jf_pos ⟨rfl, rfl, rfl⟩]; exact jS_end ⟨rfl, ht.jp.jp⟩
    · rw [if_neg c, if_neg c, xor_0]; exact jS_end ⟨rfl, ht.jp⟩
  · show jE (b_X42_addByte_2 t X z 8) _
    unfold b_X42_addByte_2
    rw [if_neg (by omega)]
    exact jS_inr (jS_end ht)
theorem s_addN : jE (m_X42_addNumber u X z) fun q => sSu u q.1 X (crN (jf u 46 X 15) z) := by
  rw [em_X42_addNumber]; unfold dm_X42_addNumber
  rw [eu_X42_addNumber_2]; unfold du_X42_addNumber_2
  refine jS_for (fun k t => sSu u t X (crF (fun k => I_and (I_shr z (8 * k)) 255) k.toNat (jf u 46 X 15))) (fun k => [X, z, k]) 0 4 (by omega) sSu.rfl (fun k t k0 k1 ht => ?_) (fun t ht => ?_)
  · show jE (b_X42_addNumber_2 t X z k) _
    unfold b_X42_addNumber_2
    rw [if_pos k1, W32_in (z := 8 * k) (by omega) (by omega)]
    refine jS_call s_add fun q hq => ?_
    rw [W32_in (by omega) (by omega), show (k + 1).toNat = k.toNat + 1 by omega]
    refine jS_end ⟨rfl, ?_⟩
    rw [show crF (fun k => I_and (I_shr z (8 * k)) 255) (k.toNat + 1) (jf u 46 X 15) = crB (crF (fun k => I_and (I_shr z (8 * k)) 255) k.toNat (jf u 46 X 15)) (I_and (I_shr z (8 * (k.toNat : Nat))) 255) from rfl, nt k0, ← ht.2.1]
    exact ht.then hq
  · show jE (b_X42_addNumber_2 t X z 4) _
    unfold b_X42_addNumber_2
    rw [if_neg (by omega)]
    exact jS_inr (jS_end ht)
theorem crF_congr {m : Nat} (h : ∀ k : Nat, k < m → F k = F' k) (c : Int) : crF F m c = crF F' m c := by
  induction m with
  | zero => rfl
  | succ m ih =>
    show crB (crF F m c) (F m) = crB (crF F' m c) (F' m)
    rw [ih fun k hk => h k (by omega), h m (by omega)]
theorem bt8_sum {b : Int} (h : 0 ≤ b ∧ b < 256) : bt8 b 0 + 2 * bt8 b 1 + 4 * bt8 b 2 + 8 * bt8 b 3 + 16 * bt8 b 4 + 32 * bt8 b 5 + 64 * bt8 b 6 + 128 * bt8 b 7 = b := by
  have e0 : bt8 b 0 = b / 1 % 2 := rfl
  have e1 : bt8 b 1 = b / 2 % 2 := rfl
  have e2 : bt8 b 2 = b / 4 % 2 := rfl
  have e3 : bt8 b 3 = b / 8 % 2 := rfl
  have e4 : bt8 b 4 = b / 16 % 2 := rfl
  have e5 : bt8 b 5 = b / 32 % 2 := rfl
  have e6 : bt8 b 6 = b / 64 % 2 := rfl
  have e7 : bt8 b 7 = b / 128 % 2 := rfl
  omega
theorem mkB_file (G : sG g) (hb : byG g n) (hz : nP g + nZ g ≤ n) (k0 : 0 ≤ k) (k1 : k < nZ g - 28) : mkB (fun k => mkG g k) k = g (nP g + 28 + k) := by
  obtain ⟨g1, g2, g3, g4, g5, g6, g7, g8, g9⟩ := G
  have M : ∀ x, 0 ≤ x → x < 8 → mkG g (8 * k + x) = bt8 (g (nP g + 28 + k)) x := fun x x0 x1 => by
    rw [mkG_at k0 x0 x1]
    by_cases c : 2 * (8 * k + x) < nT g
    · rw [if_pos c]
    · rw [if_neg c]
      rcases g9 k x k0 k1 x0 x1 with q | q
      · exact q.symm
      · omega
  unfold mkB
  have m0 := M 0 (by omega) (by omega)
  dsimp only
  rw [show 8 * k + 0 = 8 * k by omega] at m0
  rw [m0, M 1 (by omega) (by omega), M 2 (by omega) (by omega), M 3 (by omega) (by omega), M 4 (by omega) (by omega), M 5 (by omega) (by omega), M 6 (by omega) (by omega), M 7 (by omega) (by omega)]
  exact bt8_sum (hb _ (by omega) (by omega))
theorem s_sumIn (h : sX s u X g n) (G : sG g) (hz : nP g + nZ g ≤ n) : jE (m_X42_sumIn u X) fun q => q.2 = sumI (iR g) ∧ ∃ v, sSu u q.1 X v := by
  obtain ⟨g1, g2, g3, g4, g5, g6, g7, g8, g9⟩ := id G
  have hn := h.1.n8
  have h52 := h.2.2.2.1.1
  rw [em_X42_sumIn]; unfold dm_X42_sumIn
  simp only [jls]
  have k0 : sSu u (jp u 46 X 15 (-1)) X (-1) := sSu.rfl.jp
  have h0 := h.su k0
  generalize jp u 46 X 15 (-1) = t0 at k0 h0 ⊢
  rw [s_r4 h0.C (by omega) (by omega), Option.bind_some, l2i_p]
  refine jS_call s_addN fun q hq => ?_
  have k1 := k0.then hq
  rw [k0.2.1] at k1
  generalize q.1 = t1 at k1 ⊢
  clear hq
  rw [eu_X42_sumIn_18]; unfold du_X42_sumIn_18
  refine jS_for (fun x t => sSu u t X (if x = 0 then crN (-1) (iR g 2 0 0) else if x = 1 then crG (iR g) 0 (crN (-1) (iR g 2 0 0)) else if x = 2 then crG (iR g) 1 (crG (iR g) 0 (crN (-1) (iR g 2 0 0))) else crG (iR g) 2 (crG (iR g) 1 (crG (iR g) 0 (crN (-1) (iR g 2 0 0)))))) (fun x => [X, x]) 0 3 (by omega) k1 (fun x t x0 x1 ht => ?_) (fun t ht => ?_)
  · show jE (b_X42_sumIn_18 t X x) _
    unfold b_X42_sumIn_18
    have H := h.su ht
    have e105 : ∀ t, u_X42_sumIn_105 t X x = some (.inl (t, [X, x + 1])) := fun t => by
      rw [eu_X42_sumIn_105]; unfold du_X42_sumIn_105
      rw [W32_in (by omega) (by omega)]
    generalize hC : (if x = 0 then crN (-1) (iR g 2 0 0) else if x = 1 then crG (iR g) 0 (crN (-1) (iR g 2 0 0)) else if x = 2 then crG (iR g) 1 (crG (iR g) 0 (crN (-1) (iR g 2 0 0))) else crG (iR g) 2 (crG (iR g) 1 (crG (iR g) 0 (crN (-1) (iR g 2 0 0))))) = K at ht
    have nx : (if x + 1 = 0 then crN (-1) (iR g 2 0 0) else if x + 1 = 1 then crG (iR g) 0 (crN (-1) (iR g 2 0 0)) else if x + 1 = 2 then crG (iR g) 1 (crG (iR g) 0 (crN (-1) (iR g 2 0 0))) else crG (iR g) 2 (crG (iR g) 1 (crG (iR g) 0 (crN (-1) (iR g 2 0 0))))) = crG (iR g) x K := by
      have : x = 0 ∨ x = 1 ∨ x = 2 := by omega
      rcases this with e | e | e <;> subst e <;> rw [← hC] <;> rfl
    have q0 : iR g 1 x 0 = if jw' g x = -1 then 0 else 1 := rfl
    have q1 : iR g 1 x 1 = it g (jw' g x) 2 := rfl
    have q2 : iR g 1 x 2 = it g (jw' g x) 4 := rfl
    have q3 : iR g 1 x 3 = it g (jw' g x) 5 - it g (jw' g x) 4 := rfl
    rw [nx, if_pos x1, H.rw x0 (by omega), Option.bind_some]
    unfold crG
    rw [q0, q1, q2, q3]
    by_cases c : jw' g x = -1
    · simp only [if_pos c]
      rw [if_pos trivial, e105]; exact jS_end ⟨rfl, ht⟩
    · obtain ⟨b1, b2, b3, b4, b5, b6, b7, b8, b9, b10⟩ := jw_seg h.2.2.2.1 h.2.2.2.2 h.1.2.1 hn x0 x1 c
      simp only [if_neg c]
      rw [if_neg (by decide), H.nu c (by omega) (by omega), Option.bind_some, l2i_p, W32_in (z := it g (jw' g x) 2) (by omega) (by omega)]
      refine jS_call s_addN fun q hq => ?_
      have k2 := ht.then hq
      rw [ht.2.1] at k2
      have H2 := h.su k2
      generalize q.1 = t2 at k2 H2 ⊢
      rw [H2.nu c (by omega) (by omega), Option.bind_some, H2.nu c (by omega) (by omega), Option.bind_some, l2i_p, W64_in (by omega) (by omega), W32_in (z := it g (jw' g x) 5 - it g (jw' g x) 4) (by omega) (by omega)]
      refine jS_call s_addN fun q hq => ?_
      have k3 := k2.then hq
      rw [k2.2.1] at k3
      generalize q.1 = t3 at k3 ⊢
      rw [eu_X42_sumIn_69]; unfold du_X42_sumIn_69
      refine jS_for (fun m t => sSu u t X (crF (fun k => iR g 0 x k) m.toNat (crN (crN K (it g (jw' g x) 2)) (it g (jw' g x) 5 - it g (jw' g x) 4)))) (fun m => [X, x, jw' g x, m]) 0 (it g (jw' g x) 4) b6 k3 (fun m t m0 m1 ht => ?_) (fun t ht => ?_)
      · show jE (b_X42_sumIn_69 t X x (jw' g x) m) _
        unfold b_X42_sumIn_69
        have H := h.su ht
        rw [H.nu c (by omega) (by omega), Option.bind_some, if_pos ((L_cmp_lt _ _).mpr m1), H.nu c (by omega) (by omega), Option.bind_some, l2i_p, W32_in (z := it g (jw' g x) 1) (by omega) (by omega), W32_in (by omega) (by omega), s_u1 H.C (by omega) (by omega), Option.bind_some]
        refine jS_call s_add fun q hq => ?_
        rw [W32_in (by omega) (by omega), show (m + 1).toNat = m.toNat + 1 by omega]
        refine jS_end ⟨rfl, ?_⟩
        rw [show crF (fun k => iR g 0 x k) (m.toNat + 1) (crN (crN K (it g (jw' g x) 2)) (it g (jw' g x) 5 - it g (jw' g x) 4)) = crB (crF (fun k => iR g 0 x k) m.toNat (crN (crN K (it g (jw' g x) 2)) (it g (jw' g x) 5 - it g (jw' g x) 4))) (g (it g (jw' g x) 1 + (m.toNat : Nat))) from rfl, nt m0, ← ht.2.1]
        exact ht.then hq
      · show jE (b_X42_sumIn_69 t X x (jw' g x) (it g (jw' g x) 4)) _
        unfold b_X42_sumIn_69
        have H := h.su ht
        rw [H.nu c (by omega) (by omega), Option.bind_some, if_neg (fun q => by have := (L_cmp_lt _ _).mp q; omega), e105]
        exact jS_inr (jS_end ⟨rfl, ht⟩)
  · show jE (b_X42_sumIn_18 t X 3) _
    unfold b_X42_sumIn_18
    rw [if_neg (by omega), eu_X42_sumIn_111]; unfold du_X42_sumIn_111
    refine jS_inr ?_
    have ht : sSu u t X (crG (iR g) 2 (crG (iR g) 1 (crG (iR g) 0 (crN (-1) (iR g 2 0 0))))) := ht
    have eN : mkN (iR g) = (nT g + 15) / 16 := by
      unfold mkN
      rw [show iR g 1 0 0 = if jw' g 0 = -1 then 0 else 1 from rfl, if_neg g1, if_neg (by decide)]; rfl
    unfold sumI
    rw [eN]
    generalize crG (iR g) 2 (crG (iR g) 1 (crG (iR g) 0 (crN (-1) (iR g 2 0 0)))) = K at ht ⊢
    have H := h.su ht
    rw [crF_congr (F := mkB fun k => iR g 3 k 0) (F' := fun k => g (nP g + 28 + k)) fun k hk => mkB_file G h.1.2.1 hz (by omega) (by omega)]
    rw [H.rw (by omega) (by omega), Option.bind_some, H.nu g1 (by omega) (by omega), Option.bind_some, show it g (jw' g 0) 4 = nT g from rfl, l2i_p, W32_in (z := nT g) (by omega) (by omega), W32_in (by omega) (by omega), jdv_in (by decide), Option.bind_some, I_div_n (by omega) (by omega) (by omega) (by omega), eu_X42_sumIn_132]; unfold du_X42_sumIn_132
    refine jS_for (fun m t => sSu u t X (crF (fun k => g (nP g + 28 + k)) m.toNat K)) (fun m => [X, (nT g + 15) / 16, m]) 0 ((nT g + 15) / 16) (by omega) ht (fun m t m0 m1 ht => ?_) (fun t ht => ?_)
    · show jE (b_X42_sumIn_132 t X _ m) _
      unfold b_X42_sumIn_132
      have H := h.su ht
      rw [if_pos m1, H.rw (by omega) (by omega), Option.bind_some, H.nu g5 (by omega) (by omega), Option.bind_some, show it g (jw' g 3) 1 = nP g from rfl, l2i_p, W32_in (z := nP g) (by omega) (by omega), W32_in (z := nP g + 28) (by omega) (by omega), W32_in (z := nP g + 28 + m) (by omega) (by omega), s_u1 H.C (by omega) (by omega), Option.bind_some]
      refine jS_call s_add fun q hq => ?_
      rw [W32_in (by omega) (by omega), show (m + 1).toNat = m.toNat + 1 by omega]
      refine jS_end ⟨rfl, ?_⟩
      rw [show crF (fun k => g (nP g + 28 + k)) (m.toNat + 1) K = crB (crF (fun k => g (nP g + 28 + k)) m.toNat K) (g (nP g + 28 + (m.toNat : Nat))) from rfl, nt m0, ← ht.2.1]
      exact ht.then hq
    · show jE (b_X42_sumIn_132 t X _ ((nT g + 15) / 16)) _
      unfold b_X42_sumIn_132
      rw [if_neg (by omega), eu_X42_sumIn_169]; unfold du_X42_sumIn_169
      exact jS_inr (jS_end ⟨by rw [ht.2.1], _, ht⟩)
end jSread4
