/-! words: the component's calls and the twin's -/
section jWords5
variable {s t : jS} {W V : Int}
/-- r is the kind of w -/
def isKd (w r : Int) : Prop := (0 ≤ r ∧ (if w % 4 = 3 then 0 else 48) ≤ r ∧ r < (if w % 4 = 3 then 48 else 75) ∧ pTk r.toNat w = true ∧ ∀ j : Int, (if w % 4 = 3 then 0 else 48) ≤ j → j < r → ¬ pTk j.toNat w = true) ∨ (r = -1 ∧ ∀ j : Int, (if w % 4 = 3 then 0 else 48) ≤ j → j < (if w % 4 = 3 then 48 else 75) → ¬ pTk j.toNat w = true)
theorem isKd_one {w r q : Int} (h : isKd w r) (g : isKd w q) : r = q := by
  unfold isKd at h g
  generalize (if w % 4 = 3 then (0 : Int) else 48) = lo at *
  generalize (if w % 4 = 3 then (48 : Int) else 75) = hi at *
  rcases h with ⟨h0, h1, h2, h3, h4⟩ | ⟨h1, h2⟩ <;> rcases g with ⟨g0, g1, g2, g3, g4⟩ | ⟨g1, g2⟩
  · rcases Int.lt_trichotomy r q with z | z | z
    · exact absurd h3 (g4 r h1 z)
    · exact z
    · exact absurd g3 (h4 q g1 z)
  · exact absurd h3 (g2 r h1 h2)
  · exact absurd g3 (h2 q g1 g2)
  · rw [h1, g1]
theorem isKd_b {w r : Int} (h : isKd w r) : -1 ≤ r ∧ r < 75 := by
  unfold isKd at h
  rcases h with ⟨h0, h1, h2, _⟩ | ⟨h1, _⟩
  · refine ⟨by omega, ?_⟩
    by_cases c : w % 4 = 3
    · rw [if_pos c] at h2; omega
    · rw [if_neg c] at h2; omega
  · omega
theorem isKd_t {w r : Int} (h : isKd w r) (h0 : ¬ r = -1) : 0 ≤ r ∧ r < 75 ∧ pTk r.toNat w = true ∧ (w % 4 = 3 → r < 48) ∧ (¬ w % 4 = 3 → 48 ≤ r) := by
  have hb := isKd_b h
  unfold isKd at h
  rcases h with ⟨a0, a1, a2, a3, a4⟩ | ⟨a1, _⟩
  · refine ⟨a0, hb.2, a3, fun c => ?_, fun c => ?_⟩
    · rw [if_pos c] at a2; exact a2
    · rw [if_neg c] at a1; exact a1
  · exact absurd a1 h0
theorem t_find (hR : pRows t (V + 1)) {w : Int} (hw : -2147483648 ≤ w ∧ w ≤ 2147483647) : ∃ q r, m_X38_find t V w = some (pw4 t (V + 2) q, r) ∧ isKd w r ∧ (¬ r = -1 → q = pPt r.toNat w) := by
  obtain ⟨q, r, h, h2⟩ := s_X38_find t V w hR hw
  refine ⟨q, r, h, ?_, ?_⟩
  · rcases h2 with ⟨a0, a1, a2, a3, a4, a5⟩ | h2
    · exact .inl ⟨a0, a1, a2, a3, a5⟩
    · exact .inr h2
  · intro hr
    rcases h2 with ⟨a0, a1, a2, a3, a4, a5⟩ | h2
    · exact a4
    · exact absurd h2.1 hr
/-- the component's kind of a word -/
theorem c_kind (h : pWA s W) {w : Int} (hw : -2147483648 ≤ w ∧ w ≤ 2147483647) : ∃ r, m_X2_kind s W w = some r ∧ isKd w r := by
  have hb := pWh_b hw
  rw [em_X2_kind]; unfold dm_X2_kind
  rw [s_X2_whole, Option.bind_some]
  simp only [eu_X2_kind_18, du_X2_kind_18, eu_X2_kind_33, du_X2_kind_33, I_and_3]
  have key : ∀ lo hi : Int, 0 ≤ lo → lo ≤ hi → hi ≤ 75 → (∀ k : Int, lo ≤ k → k < hi → (pTk k.toNat (pWh w) = true ↔ pTk k.toNat w = true)) → ∃ r, u_X2_kind_38 s W (pWh w) hi lo = some r ∧ ((0 ≤ r ∧ lo ≤ r ∧ r < hi ∧ pTk r.toNat w = true ∧ ∀ j : Int, lo ≤ j → j < r → ¬ pTk j.toNat w = true) ∨ (r = -1 ∧ ∀ j : Int, lo ≤ j → j < hi → ¬ pTk j.toNat w = true)) := by
    intro lo hi l0 l1 l2 hT
    rw [eu_X2_kind_38, du_X2_kind_38]
    have is : ∀ k : Int, lo ≤ k → k < hi → jlt s 1008 (W + 23) 75 k = some (jf s 1008 (W + 23) k) ∧ jct s 27 (jf s 1008 (W + 23) k) (m_X7_is s (jf s 1008 (W + 23) k) (pWh w)) = some (if pTk k.toNat (pWh w) = true then 1 else 0) := by
      intro k k0 k1
      obtain ⟨e1, e2⟩ := h.at (i := k) (by omega) (by omega)
      exact ⟨e1, by rw [jct_in e2.t, s_X7_is e2 (by omega) ⟨hb.1, hb.2.1⟩]⟩
    rcases jseekR (C := jc4 b_X2_kind_38) (s := s) (fun k => [W, pWh w, hi, k]) (fun k => pTk k.toNat (pWh w) = true) (fun k => some k) (some (-1)) lo hi l1 (fun k k0 k1 hP => by
        show b_X2_kind_38 s W (pWh w) hi k = _
        unfold b_X2_kind_38
        obtain ⟨e1, e2⟩ := is k k0 k1
        rw [if_pos k1, e1, Option.bind_some, e2, Option.bind_some, if_neg hP, if_pos rfl, W32_in (by omega) (by omega)]) (fun k k0 k1 hP => by
        show b_X2_kind_38 s W (pWh w) hi k = _
        unfold b_X2_kind_38
        obtain ⟨e1, e2⟩ := is k k0 k1
        rw [if_pos k1, e1, Option.bind_some, e2, Option.bind_some, if_pos hP, if_neg (by omega)]) (by
        show b_X2_kind_38 s W (pWh w) hi hi = _
        unfold b_X2_kind_38
        rw [if_neg (by omega)]) with ⟨k, k0, k1, k2, k3, k4⟩ | ⟨k3, k4⟩
    · exact ⟨k, k4, .inl ⟨by omega, k0, k1, (hT k k0 k1).mp k2, fun j j0 j1 q => k3 j j0 j1 ((hT j j0 (by omega)).mpr q)⟩⟩
    · exact ⟨-1, k4, .inr ⟨rfl, fun j j0 j1 q => k3 j j0 j1 ((hT j j0 j1).mpr q)⟩⟩
  unfold isKd
  by_cases c : w % 4 = 3
  · simp only [if_pos c]
    refine key 0 48 (by omega) (by omega) (by omega) fun k k0 k1 => ?_
    unfold pWh; rw [if_pos c]
  · simp only [if_neg c]
    refine key 48 75 (by omega) (by omega) (by omega) fun k k0 k1 => ?_
    unfold pWh; rw [if_neg c, (pTk_wh c (k := k.toNat) (by omega) (by omega)).1]
/-- the parts of a word of a kind -/
theorem c_part (h : pWA s W) {w r : Int} (hw : -2147483648 ≤ w ∧ w ≤ 2147483647) (hr : isKd w r) (h0 : ¬ r = -1) {e : Nat} (he : e < 4) : m_X7_part s (jf s 1008 (W + 23) r) (pWh w) e = some (p4g (pPt r.toNat w) e) := by
  obtain ⟨r0, r1, r2, r3, r4⟩ := isKd_t hr h0
  have hb := pWh_b hw
  obtain ⟨e1, e2⟩ := h.at r0 r1
  rw [s_X7_part e2 (by omega) he ⟨hb.1, hb.2.1⟩]
  have hpt : pTk r.toNat (pWh w) = true ∧ pPt r.toNat (pWh w) = pPt r.toNat w := by
    unfold pWh
    by_cases c : w % 4 = 3
    · rw [if_pos c]; exact ⟨r2, rfl⟩
    · rw [if_neg c]
      obtain ⟨q1, q2⟩ := pTk_wh c (k := r.toNat) (by omega) (by have := r4 c; omega)
      exact ⟨by rw [← q1]; exact r2, q2.symm⟩
  rw [← hpt.2]
  have ht := hpt.1
  unfold pTk at ht
  cases hq : pRes r.toNat (pWh w) with
  | none => rw [hq] at ht; cases ht
  | some q =>
    have hp : pPt r.toNat (pWh w) = pAdj r.toNat q := by unfold pPt; rw [hq]
    rw [hp, take_adj (by omega) hq he]
/-- good parts may be put -/
theorem good_put {k : Nat} (hk : k < 75) {p : jP4} (hg : pGood k p = true) (hr : ∀ e : Nat, e < 4 → -2147483648 ≤ p4g p e ∧ p4g p e ≤ 2147483647) : ∀ e : Nat, e < 4 → ¬ (cFd k e).1 = 0 → fPv (cFd k e) (p4g p e) := by
  intro e he c
  have hm := (good_iff hk p).mp hg e he
  have hm : fMay (cFd k e) (p4g p e) := by
    rcases hm with z | z
    · exact absurd z c
    · exact z
  unfold fPv
  unfold fMay at hm
  by_cases c4 : (cFd k e).1 = 4
  · rw [if_pos c4] at hm ⊢; omega
  rw [if_neg c4] at hm ⊢
  by_cases c5 : (cFd k e).1 = 5
  · rw [if_pos c5] at hm ⊢; omega
  rw [if_neg c5] at hm ⊢
  exact hr e he
theorem c_made (h : pWA s W) {k : Int} (h0 : 0 ≤ k) (h1 : k < 75) {d a b i : Int} (hg : pGood k.toNat (d, a, b, i) = true) (hr : ∀ e : Nat, e < 4 → -2147483648 ≤ p4g (d, a, b, i) e ∧ p4g (d, a, b, i) e ≤ 2147483647) : m_X2_made s W (jf s 1008 (W + 23) k) d a b i = some (pPut k.toNat (d, a, b, i)) :=
  s_X2_made (h.at h0 h1).2 (by omega) d a b i (good_put (by omega) hg hr)
/-- what the component's kind says of four parts -/
theorem c_may4 (h : pWA s W) {k : Int} (h0 : 0 ≤ k) (h1 : k < 75) (p : jP4) : (pGood k.toNat p = true → ∀ e : Nat, e < 4 → m_X7_may s (jf s 1008 (W + 23) k) e (p4g p e) = some 1) ∧ (¬ pGood k.toNat p = true → ∃ e : Nat, e < 4 ∧ m_X7_may s (jf s 1008 (W + 23) k) e (p4g p e) = some 0 ∧ ∀ f : Nat, f < e → m_X7_may s (jf s 1008 (W + 23) k) f (p4g p f) = some 1) := by
  have hk := (h.at h0 h1).2
  have hg := good_iff (k := k.toNat) (by omega) p
  constructor
  · intro q e he
    exact (s_X7_may hk (by omega) he (p4g p e)).1 (hg.mp q e he)
  · intro q
    have hn : ¬ cGood k.toNat p := fun z => q (hg.mpr z)
    have m := fun (e : Nat) (he : e < 4) => s_X7_may hk (by omega) he (p4g p e)
    by_cases g0 : (cFd k.toNat 0).1 = 0 ∨ fMay (cFd k.toNat 0) (p4g p 0)
    · by_cases g1 : (cFd k.toNat 1).1 = 0 ∨ fMay (cFd k.toNat 1) (p4g p 1)
      · by_cases g2 : (cFd k.toNat 2).1 = 0 ∨ fMay (cFd k.toNat 2) (p4g p 2)
        · by_cases g3 : (cFd k.toNat 3).1 = 0 ∨ fMay (cFd k.toNat 3) (p4g p 3)
          · refine absurd (fun e he => ?_) hn
            have : e = 0 ∨ e = 1 ∨ e = 2 ∨ e = 3 := by omega
            rcases this with rfl | rfl | rfl | rfl
            · exact g0
            · exact g1
            · exact g2
            · exact g3
          · refine ⟨3, by omega, (m 3 (by omega)).2 g3, fun f hf => ?_⟩
            have : f = 0 ∨ f = 1 ∨ f = 2 := by omega
            rcases this with rfl | rfl | rfl
            · exact (m 0 (by omega)).1 g0
            · exact (m 1 (by omega)).1 g1
            · exact (m 2 (by omega)).1 g2
        · refine ⟨2, by omega, (m 2 (by omega)).2 g2, fun f hf => ?_⟩
          have : f = 0 ∨ f = 1 := by omega
          rcases this with rfl | rfl
          · exact (m 0 (by omega)).1 g0
          · exact (m 1 (by omega)).1 g1
      · refine ⟨1, by omega, (m 1 (by omega)).2 g1, fun f hf => ?_⟩
        have : f = 0 := by omega
        subst this
        exact (m 0 (by omega)).1 g0
    · exact ⟨0, by omega, (m 0 (by omega)).2 g0, fun f hf => by omega⟩
/-- a word of a kind and four parts: the component -/
theorem c_word (h : pWA s W) {k d a b i : Int} (hr : ∀ e : Nat, e < 4 → -2147483648 ≤ p4g (d, a, b, i) e ∧ p4g (d, a, b, i) e ≤ 2147483647) :
    (¬ (0 ≤ k ∧ k < 75) → m_X2_word s W k d a b i = (jnx s 2051).bind fun q2 => jck0 q2.2 (some (q2.1, true, q2.2))) ∧
    (0 ≤ k ∧ k < 75 → ¬ pGood k.toNat (d, a, b, i) = true → m_X2_word s W k d a b i = (jnx s 2054).bind fun q2 => jck0 q2.2 (some (q2.1, true, q2.2))) ∧
    (0 ≤ k ∧ k < 75 → pGood k.toNat (d, a, b, i) = true → m_X2_word s W k d a b i = some (s, false, pPut k.toNat (d, a, b, i))) := by
  rw [em_X2_word]; unfold dm_X2_word
  rw [e_X2_isKind, Option.bind_some]
  simp only [eu_X2_word_70, du_X2_word_70]
  refine ⟨fun c => ?_, fun c g => ?_, fun c g => ?_⟩
  · rw [if_neg (show ¬ (¬ k < 0 ∧ k < 75) by omega), if_pos rfl]
  · obtain ⟨e1, e2⟩ := h.at c.1 c.2
    rw [if_pos (show ¬ k < 0 ∧ k < 75 by omega), if_neg (by omega), e1, Option.bind_some]
    simp only [jct_in e2.t]
    obtain ⟨e, he, m0, m1⟩ := (c_may4 h c.1 c.2 (d, a, b, i)).2 g
    have : e = 0 ∨ e = 1 ∨ e = 2 ∨ e = 3 := by omega
    rcases this with rfl | rfl | rfl | rfl
    · rw [show m_X7_may s (jf s 1008 (W + 23) k) 0 d = some 0 from m0, Option.bind_some, if_pos rfl]
    · rw [show m_X7_may s (jf s 1008 (W + 23) k) 0 d = some 1 from m1 0 (by omega), Option.bind_some, if_neg (by omega), show m_X7_may s (jf s 1008 (W + 23) k) 1 a = some 0 from m0, Option.bind_some, if_pos rfl]
    · rw [show m_X7_may s (jf s 1008 (W + 23) k) 0 d = some 1 from m1 0 (by omega), Option.bind_some, if_neg (by omega), show m_X7_may s (jf s 1008 (W + 23) k) 1 a = some 1 from m1 1 (by omega), Option.bind_some, if_neg (by omega), show m_X7_may s (jf s 1008 (W + 23) k) 2 b = some 0 from m0, Option.bind_some, if_pos rfl]
    · rw [show m_X7_may s (jf s 1008 (W + 23) k) 0 d = some 1 from m1 0 (by omega), Option.bind_some, if_neg (by omega), show m_X7_may s (jf s 1008 (W + 23) k) 1 a = some 1 from m1 1 (by omega), Option.bind_some, if_neg (by omega), show m_X7_may s (jf s 1008 (W + 23) k) 2 b = some 1 from m1 2 (by omega), Option.bind_some, if_neg (by omega), show m_X7_may s (jf s 1008 (W + 23) k) 3 i = some 0 from m0, Option.bind_some, if_pos rfl]
  · obtain ⟨e1, e2⟩ := h.at c.1 c.2
    rw [if_pos (show ¬ k < 0 ∧ k < 75 by omega), if_neg (by omega), e1, Option.bind_some]
    simp only [jct_in e2.t]
    have m1 := (c_may4 h c.1 c.2 (d, a, b, i)).1 g
    rw [show m_X7_may s (jf s 1008 (W + 23) k) 0 d = some 1 from m1 0 (by omega), Option.bind_some, if_neg (by omega), show m_X7_may s (jf s 1008 (W + 23) k) 1 a = some 1 from m1 1 (by omega), Option.bind_some, if_neg (by omega), show m_X7_may s (jf s 1008 (W + 23) k) 2 b = some 1 from m1 2 (by omega), Option.bind_some, if_neg (by omega), show m_X7_may s (jf s 1008 (W + 23) k) 3 i = some 1 from m1 3 (by omega), Option.bind_some, if_neg (by omega), c_made h c.1 c.2 g hr, Option.bind_some]
/-- the twin's -/
theorem pw4_sets (u : jS) (x a b c d : Int) : jp (jp (jp (jp u 1000 x 0 a) 1000 x 1 b) 1000 x 2 c) 1000 x 3 d = pw4 u x (a, b, c, d) := by
  refine jS_eq (s := u) jSm.rfl jSm.rfl fun c' a' k' => ?_
  simp only [jf_jp, jf_pw4]
  by_cases h : c' = 1000 ∧ a' = x ∧ 0 ≤ k' ∧ k' < 4
  · rw [if_pos h]
    have : k' = 0 ∨ k' = 1 ∨ k' = 2 ∨ k' = 3 := by omega
    rcases this with rfl | rfl | rfl | rfl <;> simp [h.1, h.2.1, p4g]
  · rw [if_neg h, if_neg (by omega), if_neg (by omega), if_neg (by omega), if_neg (by omega)]
theorem t_word (hR : pRows t (V + 1)) {k d a b i : Int} (hr : ∀ e : Nat, e < 4 → -2147483640 ≤ p4g (d, a, b, i) e ∧ p4g (d, a, b, i) e ≤ 2147483647) :
    (¬ (0 ≤ k ∧ k < 75) → m_X38_word t V k d a b i = some (jp t 42 V 0 1, 0)) ∧
    (0 ≤ k ∧ k < 75 → ¬ pGood k.toNat (d, a, b, i) = true → m_X38_word t V k d a b i = some (jp (pw4 (jp t 42 V 0 0) (V + 2) (d, a, b, i)) 42 V 0 2, 0)) ∧
    (0 ≤ k ∧ k < 75 → pGood k.toNat (d, a, b, i) = true → m_X38_word t V k d a b i = some (jp (pw4 (jp t 42 V 0 0) (V + 2) (d, a, b, i)) 42 V 0 0, pPut k.toNat (d, a, b, i))) := by
  rw [em_X38_word]; unfold dm_X38_word
  rw [e_X38_isKind, Option.bind_some]
  simp only [eu_X38_word_13, du_X38_word_13, eu_X38_word_69, du_X38_word_69, jls]
  have j0 : ∀ (u : jS) (v : Int), jf (jp u 42 V 0 v) 42 V 0 = v := fun u v => by rw [jf_jp, if_pos ⟨rfl, rfl, rfl⟩]
  have hR0 : pRows (jp t 42 V 0 0) (V + 1) := fun j a b => by rw [jf_jp, if_neg (by omega)]; exact hR j a b
  simp only [j0]
  refine ⟨fun c => ?_, fun c g => ?_, fun c g => ?_⟩
  · rw [if_neg (show ¬ (¬ k < 0 ∧ k < 75) by omega), if_pos rfl, if_neg (by omega)]
  · rw [if_pos (show ¬ k < 0 ∧ k < 75 by omega), if_neg (by omega), if_pos trivial]
    rw [jst_in (by omega) (by omega), Option.bind_some, jst_in (by omega) (by omega), Option.bind_some, jst_in (by omega) (by omega), Option.bind_some, jst_in (by omega) (by omega), Option.bind_some, pw4_sets, s_X38_areGood _ _ _ _ hR0 c.1 c.2, Option.bind_some, if_neg g, if_pos rfl, if_neg (by omega)]
  · rw [if_pos (show ¬ k < 0 ∧ k < 75 by omega), if_neg (by omega), if_pos trivial]
    rw [jst_in (by omega) (by omega), Option.bind_some, jst_in (by omega) (by omega), Option.bind_some, jst_in (by omega) (by omega), Option.bind_some, jst_in (by omega) (by omega), Option.bind_some, pw4_sets, s_X38_areGood _ _ _ _ hR0 c.1 c.2, Option.bind_some, if_pos g, if_neg (by omega), if_pos trivial, jp_pw4 _ _ _ _ _ _ _ (by decide), s_X38_put _ _ _ _ (by
      intro j a b
      rw [jf_jp, if_neg (by omega)]; exact hR0 j a b) c.1 c.2 hr, Option.bind_some]
end jWords5
