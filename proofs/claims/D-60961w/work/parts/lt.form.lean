/-! the linker: a word made anew, each side *-/
set_option maxRecDepth 100000
section jLfm
variable {s t u w' : jS} {a b n o p q v l x c f g i j H C K X w r how at0 rr d z f0 : Int} {B : Int → Int}
theorem basT : ∀ k : Nat, k < 24 → (k = 3 ∨ 10 ≤ k) → ∀ j : Nat, j < 32 → if 15 ≤ j ∧ j < 20 then pRow (32 * k + j) = 200 + (j - 15) else pRow (32 * k + j) < 2 ∨ (pRow (32 * k + j) < 500 ∧ ¬ pce (pRow (32 * k + j)) = 1 ∧ pce (pRow (32 * k + j)) < 4) := by decide +kernel
theorem basM : ∀ j : Nat, j < 32 → pbt (-1015809) j = if 15 ≤ j ∧ j < 20 then 0 else 1 := by decide +kernel
theorem basX : ∀ x : Nat, x < 32 → ∀ j : Nat, j < 32 → pbt ((x : Int) * 32768) j = if 15 ≤ j ∧ j < 20 then pbt (x : Int) (j - 15) else 0 := by decide +kernel
/-- another base register -/
theorem basW {k : Nat} (hk : k < 24) (hk' : k = 3 ∨ 10 ≤ k) (p : jP4) (x0 : 0 ≤ x) (x1 : x ≤ 31) : I_or (I_and (pPut k p) (-1015809)) (I_shl x 15) = pPut k (p4s p 1 x) := by
  have e15 : (2 : Int) ^ (15 : Int).toNat = 32768 := by decide
  refine word_ext (I_or_b _ _) (pPut_in _ _) fun j hj => ?_
  have hb : j < pBits k := by unfold pBits; rw [if_pos (by omega)]; exact hj
  rw [bt_or _ _ _ hj, bt_and _ _ _ hj, pPut_bit k p j hb, pPut_bit k _ j hb, basM j hj, i_shl_p (by decide) (by decide), e15, W32_in (by omega) (by omega)]
  have ex : ((x.toNat : Nat) : Int) = x := by omega
  have bx := basX x.toNat (by omega) j hj
  rw [ex] at bx
  rw [bx]
  have T := basT k hk hk' j hj
  have p01 := pb_01 p (pRow (32 * k + j))
  by_cases c : 15 ≤ j ∧ j < 20
  · rw [if_pos c] at T
    rw [if_pos c, if_pos c, T]
    have q01 := pbt_01 x (j - 15)
    have e1 : pb (p4s p 1 x) (200 + (j - 15)) = pbt x (j - 15) := by
      unfold pb
      have c2 : pce (200 + (j - 15)) = 1 := by unfold pce; rw [if_pos (by omega)]; omega
      rw [if_neg (by omega), if_pos (by omega), c2, show (200 + (j - 15)) % 100 = j - 15 by omega]; rfl
    have eA : (if pb p (200 + (j - 15)) = 1 ∧ (0 : Int) = 1 then (1 : Int) else 0) = 0 := if_neg fun z => absurd z.2 (by decide)
    rw [e1, eA]
    by_cases g : pbt x (j - 15) = 1
    · rw [if_pos (.inr g), g]
    · rw [if_neg (fun z => by rcases z with z | z; exact absurd z (by decide); exact g z)]; omega
  · rw [if_neg c] at T
    rw [if_neg c, if_neg c]
    have e1 : pb (p4s p 1 x) (pRow (32 * k + j)) = pb p (pRow (32 * k + j)) := by
      unfold pb
      rcases T with z | ⟨z1, z2, z3⟩
      · rw [if_pos z, if_pos z]
      · by_cases g : pRow (32 * k + j) < 2
        · rw [if_pos g, if_pos g]
        · rw [if_neg g, if_neg g, if_pos z1, if_pos z1, p4_gs_ne _ _ _ _ (by omega) z3 z2]
    have eA : (if pb p (pRow (32 * k + j)) = 1 ∧ (1 : Int) = 1 then (1 : Int) else 0) = pb p (pRow (32 * k + j)) := by
      by_cases g : pb p (pRow (32 * k + j)) = 1
      · rw [if_pos ⟨g, rfl⟩, g]
      · rw [if_neg (fun z => g z.1)]; omega
    rw [e1, eA]
    by_cases g : pb p (pRow (32 * k + j)) = 1
    · rw [if_pos (.inl g), g]
    · rw [if_neg (fun z => by rcases z with z | z; exact g z; exact absurd z (by decide))]; omega
/-- a part of a word, the twin -/
theorem t_partR (hR : pRows t (H + 5)) (hj : jin w) (hk : isKd w r) (h0 : ¬ r = -1) {e : Nat} (he : e < 4) : ∃ u, m_X38_part t (H + 4) w e = some (u, p4g (pPt r.toNat w) e) ∧ tW6 H t u ∧ pRows u (H + 5) := by
  have e5 : H + 4 + 1 = H + 5 := by omega
  have e6 : H + 4 + 2 = H + 6 := by omega
  obtain ⟨n1, -⟩ := pPt_n hj hk h0
  rw [em_X38_part]; unfold dm_X38_part
  obtain ⟨q, r', e2, k2, k3⟩ := t_find (V := H + 4) (by rw [e5]; exact hR) hj
  have := isKd_one k2 hk
  subst this
  obtain ⟨r0, r1, -⟩ := isKd_t hk h0
  rw [e2, Option.bind_some, e6]
  dsimp only
  obtain ⟨t1, T1⟩ : ∃ t1, t1 = pw4 t (H + 6) q := ⟨_, rfl⟩
  have b1 : tW6 H t t1 := by rw [T1]; exact pw4_bw
  have hR1 : pRows t1 (H + 5) := by rw [T1]; exact pRows_pw4 hR (by omega)
  rw [← T1]
  have en : ((e : Int)).toNat = e := by omega
  rw [if_neg h0, if_neg (by omega), if_pos (by omega), s_X38_has _ _ _ _ (by rw [e5]; exact hR1) r0 r1 (by omega) (by omega), Option.bind_some, en]
  have fin : ∀ y, tW6 H t (jp t1 42 (H + 4) 0 y) ∧ pRows (jp t1 42 (H + 4) 0 y) (H + 5) := fun y => ⟨b1.trans w6_42, fun i i0 i1 => by rw [jf_neg (by omega)]; exact hR1 i i0 i1⟩
  by_cases c : pHas r'.toNat e = true
  · rw [if_pos c, if_neg n10, eu_X38_part_35]; unfold du_X38_part_35
    simp only [jls]
    have r1 : jf t1 1000 (H + 6) e = p4g (pPt r'.toNat w) e := by
      rw [T1, jf_pw4, if_pos ⟨rfl, rfl, by omega, by omega⟩, en, k3 h0]
    rw [if_pos (jf_pos ⟨rfl, rfl, rfl⟩), jlt_in (by omega) (by omega), Option.bind_some, jf_neg (by omega), e6, r1]
    exact ⟨_, rfl, fin 0⟩
  · have z0 : p4g (pPt r'.toNat w) e = 0 := by
      rw [n1]
      have : e = 0 ∨ e = 1 ∨ e = 2 ∨ e = 3 := by omega
      rcases this with rfl | rfl | rfl | rfl <;> exact if_neg c
    rw [if_neg c, if_pos rfl, eu_X38_part_34]; unfold du_X38_part_34
    rw [eu_X38_part_35]; unfold du_X38_part_35
    simp only [jls]
    rw [if_neg (by rw [jf_pos ⟨rfl, rfl, rfl⟩]; decide), z0]
    exact ⟨_, rfl, fin 1⟩
/-- a word put together anew, the twin -/
theorem t_formedR (hR : pRows t (H + 5)) (k0 : 0 ≤ r) (k1 : r < 75) (hs : knS r.toNat) :
    (¬ pImm r.toNat v = true → ∃ t1, tW6 H t t1 ∧ ∀ y, m_X37_wrong t1 H 8 rr = some (y, 0) → m_X37_formed t H rr r d a b v = some (y, 0)) ∧
    (pImm r.toNat v = true → pGood r.toNat (d, a, b, v) = true → (0 ≤ d ∧ d ≤ 31) ∧ (0 ≤ a ∧ a ≤ 31) ∧ (0 ≤ b ∧ b ≤ 31) → ∃ t1, tW6 H t t1 ∧ m_X37_formed t H rr r d a b v = (m_X37_store t1 H (jf t 41 H 115) (if r < 48 then 4 else 2) (pPut r.toNat (d, a, b, v))).bind fun q => some (q.1, 1)) := by
  have e5 : H + 4 + 1 = H + 5 := by omega
  have e6 : H + 4 + 2 = H + 6 := by omega
  obtain ⟨m1, m2⟩ := t_may (V := H + 4) (by rw [e5]; exact hR) r v
  rw [em_X37_formed]; unfold dm_X37_formed
  refine ⟨fun g => ⟨jp t 42 (H + 4) 0 0, w6_42, fun y hy => ?_⟩, fun g hg hd => ?_⟩
  · rw [m2 (fun z => g z.2.2.2), Option.bind_some, if_pos rfl, hy, Option.bind_some, Wz_0]
  · have iv := immB hs g
    have lii : L2i v = v := l2i_in (by omega) (by omega)
    have R1 : pRows (jp t 42 (H + 4) 0 0) (H + 4 + 1) := fun i i0 i1 => by rw [jf_neg (by omega), e5]; exact hR i i0 i1
    have hr : ∀ e : Nat, e < 4 → -2147483640 ≤ p4g (d, a, b, v) e ∧ p4g (d, a, b, v) e ≤ 2147483647 := fun e he => by
      have : e = 0 ∨ e = 1 ∨ e = 2 ∨ e = 3 := by omega
      rcases this with rfl | rfl | rfl | rfl
      · show -2147483640 ≤ d ∧ d ≤ _; omega
      · show -2147483640 ≤ a ∧ a ≤ _; omega
      · show -2147483640 ≤ b ∧ b ≤ _; omega
      · show -2147483640 ≤ v ∧ v ≤ _; omega
    have ew := (t_word R1 (k := r) (d := d) (a := a) (b := b) (i := v) hr).2.2 ⟨k0, k1⟩ hg
    obtain ⟨t1, hT⟩ : ∃ t1, t1 = jp (pw4 (jp (jp t 42 (H + 4) 0 0) 42 (H + 4) 0 0) (H + 4 + 2) (d, a, b, v)) 42 (H + 4) 0 0 := ⟨_, rfl⟩
    refine ⟨t1, ?_, ?_⟩
    · rw [hT, e6]; exact ((w6_42.trans w6_42).trans pw4_bw).trans w6_42
    · rw [m1 ⟨k0, k1, has3 hs, g⟩, Option.bind_some]
      dsimp only
      rw [if_neg n10, lii, em_X37_word]; unfold dm_X37_word
      rw [ew, ← hT, Option.bind_some, Option.bind_some, em_X37_storeWord]; unfold dm_X37_storeWord
      dsimp only
      have e4 : (if pPut r.toNat (d, a, b, v) % 4 = 3 then (4 : Int) else 2) = if r < 48 then 4 else 2 := by
        by_cases c : r < 48
        · rw [if_pos c, if_pos ((pPut_m4 (by omega) _).mpr (by omega))]
        · rw [if_neg c, if_neg (fun z => by have := (pPut_m4 (by omega) _).mp z; omega)]
      rw [lenW, Option.bind_some, e4, jf_neg (by omega)]
      cases m_X37_store t1 H (jf t 41 H 115) (if r < 48 then 4 else 2) (pPut r.toNat (d, a, b, v)) with
      | none => rfl
      | some z => rw [Option.bind_some, Option.bind_some, Option.bind_some, Wz_1]
/-- the parts that a low word gets -/
noncomputable def lowP (r w v x : Int) : jP4 := if x < 0 then p4s (pPt r.toNat w) 3 v else p4s (p4s (pPt r.toNat w) 3 v) 1 x
theorem t_lowR (hR : pRows t (H + 5)) (hj : jin w) (hk : isKd w r) (hs : r = 3 ∨ 10 ≤ r ∧ r ≤ 23) (hx : x = -1 ∨ x = 0 ∨ x = 3) :
    (¬ (-2048 ≤ v ∧ v ≤ 2047) → ∃ t1, tW6 H t t1 ∧ ∀ y, m_X37_wrong t1 H 8 rr = some (y, 0) → m_X37_lowWord t H rr w v x = some (y, 0)) ∧
    (-2048 ≤ v ∧ v ≤ 2047 → ∃ t1, tW6 H t t1 ∧ m_X37_lowWord t H rr w v x = (m_X37_store t1 H (jf t 41 H 115) 4 (pPut r.toNat (lowP r w v x))).bind fun q => some (q.1, 1)) := by
  have e5 : H + 4 + 1 = H + 5 := by omega
  have h0 : ¬ r = -1 := by omega
  have kn : knS r.toNat := by omega
  obtain ⟨n1, hg⟩ := pPt_n hj hk h0
  obtain ⟨g0, g1, g2, -⟩ := pGood_b hg
  have zz : ∀ e : Nat, e < 3 → 0 ≤ p4g (pPt r.toNat w) e ∧ p4g (pPt r.toNat w) e ≤ 31 := fun e he => by
    by_cases c : pHas r.toNat e = true
    · have : e = 0 ∨ e = 1 ∨ e = 2 := by omega
      rcases this with rfl | rfl | rfl
      · exact g0 c
      · exact g1 c
      · exact g2 c
    · have z0 : p4g (pPt r.toNat w) e = 0 := by
        rw [n1]
        have : e = 0 ∨ e = 1 ∨ e = 2 := by omega
        rcases this with rfl | rfl | rfl <;> exact if_neg c
      omega
  -- kind and parts
  have kd : ∃ u0, m_X38_kind t (H + 4) w = some (u0, r) ∧ tW6 H t u0 ∧ pRows u0 (H + 5) := by
    rw [em_X38_kind]; unfold dm_X38_kind
    obtain ⟨y1, E_y1⟩ : ∃ y1, y1 = jp t 42 (H + 4) 0 0 := ⟨_, rfl⟩
    obtain ⟨f_y1, p_y1, -⟩ := jpF E_y1
    rw [jls_e, ← E_y1]
    have hR1 : pRows y1 (H + 5) := fun i i0 i1 => by rw [f_y1 _ _ _ (by omega)]; exact hR i i0 i1
    obtain ⟨q, r', e2, k2, -⟩ := t_find (V := H + 4) (by rw [e5]; exact hR1) hj
    have := isKd_one k2 hk
    subst this
    rw [e2, Option.bind_some, show H + 4 + 2 = H + 6 by omega]
    exact ⟨_, rfl, tW6.trans (u := y1) ⟨jSm.rfl.wr E_y1, fun c a k q1 => f_y1 _ _ _ (by omega)⟩ pw4_bw, pRows_pw4 hR1 (by omega)⟩
  obtain ⟨u0, d0, w0, R0⟩ := kd
  obtain ⟨u1, d1, w1, R1⟩ := t_partR R0 hj hk h0 (e := 0) (by decide)
  obtain ⟨u2, d2, w2, R2⟩ := t_partR R1 hj hk h0 (e := 2) (by decide)
  obtain ⟨u3, d3, w3, R3⟩ := t_partR R2 hj hk h0 (e := 1) (by decide)
  have W3 : tW6 H t u3 := ((w0.trans w1).trans w2).trans w3
  have f115 : jf u3 41 H 115 = jf t 41 H 115 := W3.2 _ _ _ (by omega)
  have d1' : m_X38_part u0 (H + 4) w 0 = some (u1, p4g (pPt r.toNat w) 0) := d1
  have d2' : m_X38_part u1 (H + 4) w 2 = some (u2, p4g (pPt r.toNat w) 2) := d2
  have d3' : m_X38_part u2 (H + 4) w 1 = some (u3, p4g (pPt r.toNat w) 1) := d3
  obtain ⟨A, hA⟩ : ∃ A, A = if x < 0 then p4g (pPt r.toNat w) 1 else x := ⟨_, rfl⟩
  have A31 : 0 ≤ A ∧ A ≤ 31 := by
    rw [hA]
    have := zz 1 (by decide)
    split <;> omega
  have el : m_X37_lowWord t H rr w v x = (m_X37_formed u3 H rr r (p4g (pPt r.toNat w) 0) A (p4g (pPt r.toNat w) 2) v).bind fun q1 => some (q1.1, Wz q1.2) := by
    rw [em_X37_lowWord]; unfold dm_X37_lowWord
    rw [d0, Option.bind_some]
    dsimp only
    rw [d1', Option.bind_some]
    dsimp only
    rw [d2', Option.bind_some]
    dsimp only
    rw [d3', Option.bind_some]
    dsimp only
    rw [eu_X37_lowWord_61]; unfold du_X37_lowWord_61
    rw [hA]
    split <;> rfl
  have eP : lowP r w v x = (p4g (pPt r.toNat w) 0, A, p4g (pPt r.toNat w) 2, v) := by
    unfold lowP
    rw [hA]
    split <;> rfl
  obtain ⟨f1, f2⟩ := t_formedR (rr := rr) (d := p4g (pPt r.toNat w) 0) (a := A) (b := p4g (pPt r.toNat w) 2) (v := v) R3 (show 0 ≤ r by omega) (by omega) kn
  have im := immL (k := r.toNat) (v := v) (by omega)
  refine ⟨fun g => ?_, fun g => ?_⟩
  · obtain ⟨t1, g1, g2⟩ := f1 (fun z => g (im.mp z))
    exact ⟨t1, W3.trans g1, fun y hy => by rw [el, g2 y hy, Option.bind_some, Wz_0]⟩
  · have good : pGood r.toNat (p4g (pPt r.toNat w) 0, A, p4g (pPt r.toNat w) 2, v) = true := by
      have h3 := pGood_3 hg (im.mpr g)
      unfold pGood at h3 ⊢
      simp only [Bool.and_eq_true, Bool.or_eq_true, Bool.not_eq_true'] at h3 ⊢
      obtain ⟨⟨⟨q0, q1⟩, q2⟩, q3⟩ := h3
      refine ⟨⟨⟨q0, ?_⟩, q2⟩, q3⟩
      by_cases c : x < 0
      · rw [if_pos c] at hA
        rw [hA]; exact q1
      · rw [if_neg c] at hA
        right
        show pReg r.toNat 1 A = true
        unfold pReg
        have : pSho r.toNat 1 = false := by
          have : r.toNat = 3 ∨ 10 ≤ r.toNat ∧ r.toNat ≤ 23 := by omega
          revert this
          generalize r.toNat = k
          intro hk
          have : ∀ k : Nat, k < 24 → pSho k 1 = false := by decide +kernel
          exact this k (by omega)
        rw [this]
        show decide _ = true
        exact decide_eq_true ⟨by omega, by omega, .inl (by omega)⟩
    obtain ⟨t1, g1, g2⟩ := f2 (im.mpr g) good ⟨zz 0 (by decide), A31, zz 2 (by decide)⟩
    refine ⟨t1, W3.trans g1, ?_⟩
    rw [el, g2, f115, if_pos (show r < 48 by omega), eP]
    cases m_X37_store t1 H (jf t 41 H 115) 4 (pPut r.toNat (p4g (pPt r.toNat w) 0, A, p4g (pPt r.toNat w) 2, v)) with
    | none => rfl
    | some z => rw [Option.bind_some, Option.bind_some]; dsimp only; rw [Wz_1]
end jLfm
