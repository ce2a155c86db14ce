/-! files: what is fed, cut, spoiled, asked (component) -/
section jFiles
variable {s t u : jS} {O X B n m k b v : Int} {g g' : Int → Int}
theorem o_read3 {n : Int} (C : rC s (O + 1239) (O + 1229) g n) (hL : pCon s) (h0 : cObL s (O + 1239 + 3)) (h1 : cObL s (O + 614)) (hT : jTt s 34 (O + 1239 + 3)) (C' : tCf t X g n) : jE2 (m_X13_read s O) (m_X40_read t X) fun r q =>
    (r.2 = q.2 ∧ jf r.1 17 O 6 = jf q.1 44 X 23 ∧ ((jGw s r.1 1 6 (fun a => O ≤ a ∧ a < O + 1858) ∧ jEx s r.1) ∧ ∀ c a k, ¬ a = jn s → O + 1 ≤ a ∧ a < O + 614 ∨ O + 1227 ≤ a ∧ a < O + 1239 → jf r.1 c a k = jf s c a k) ∧ fRe t q.1 X ∧
    ((r.2 = 0 ∧ cOb r.1 (O + 614) (oR g) ∧ tOb q.1 X 1 (oR g) ∧ vOb (oR g)) ∨ (¬ r.2 = 0 ∧ fRd t q.1 X ∧ ∀ c a k, O ≤ a → a < O + 1239 → ¬ (c = 17 ∧ a = O ∧ k = 6) → ¬ a = jn s → jf r.1 c a k = jf s c a k))) ∧ (r.2 = 0 → gOb (oR g)) := by
  obtain ⟨r', er', q', eq', H⟩ := o_read2 C hL h0 h1 hT C'
  obtain ⟨r, er, q, eq, h⟩ := ck_two (y_read C hL h0 h1 hT) (t_read C')
  have e : r = r' := Option.some.inj (er.symm.trans er')
  have e2 : q = q' := Option.some.inj (eq.symm.trans eq')
  subst e e2
  refine ⟨r, er, q, eq, H, fun z => ?_⟩
  rcases h with ⟨d, -⟩ | ⟨f, p, hf, ⟨a1, u, a2, a3⟩, b1, b2, b3, b4⟩
  · exact gOb_of C.1.by C.1.2.1 d
  · exact absurd (a1.symm.trans z) b1
/-- a byte of eight -/
noncomputable def bE (v k : Int) : Int := (L2i (L_shr v (56 - 8 * k))) % 256
noncomputable def gFd (g : Int → Int) (n v m : Int) : Int → Int := fun i => if n ≤ i ∧ i < n + m then bE v (i - n) else g i
theorem bE_lo : 0 ≤ bE v k ∧ bE v k < 256 := by unfold bE; omega
theorem gFd_0 : gFd g n v 0 = g := by funext i; unfold gFd; rw [if_neg (by omega)]
theorem gFd_s (k0 : 0 ≤ k) : gNb (gFd g n v k) (n + k) 1 (L2i (L_shr v (56 - 8 * k))) = gFd g n v (k + 1) := by
  funext i
  by_cases c : i = n + k
  · subst c
    rw [gN_1]; unfold gFd bE
    rw [if_pos (by omega), show n + k - n = k by omega]
  · rw [gN_lo (by omega)]; unfold gFd
    by_cases d : n ≤ i ∧ i < n + k
    · rw [if_pos d, if_pos (by omega)]
    · rw [if_neg d, if_neg (by omega)]
theorem gFd_by (h : byG g n) : byG (gFd g n v m) (n + m) := fun i i0 i1 => by
  unfold gFd
  by_cases c : n ≤ i ∧ i < n + m
  · rw [if_pos c]; exact bE_lo
  · rw [if_neg c]; exact h i i0 (by omega)
theorem w56 (k0 : 0 ≤ k) (k1 : k < 8) : W32 (56 - W32 (8 * k)) = 56 - 8 * k := by rw [W32_in (z := 8 * k) (by omega) (by omega), W32_in (by omega) (by omega)]
theorem fB.len (h : fB s B g n) : 0 ≤ n ∧ n ≤ 8192 ∧ jf s 23 B 1 = n ∧ jN s (B + 1) = 8192 := by
  obtain ⟨⟨a, b, c⟩, d, -⟩ := h
  rcases c with c | c
  · exact ⟨b, d, c.2.2.1, a⟩
  · omega
theorem c_ffeed (h : fB s (O + 1229) g n) : jE (m_X13_feed s O m v) fun q => (1 ≤ m ∧ m ≤ 8 ∧ n + m ≤ 8192) ∧ q.2 = 1 ∧ jFx s q.1 (O + 1229) 2 ∧ fB q.1 (O + 1229) (gFd g n v m) (n + m) ∨ ¬ (1 ≤ m ∧ m ≤ 8 ∧ n + m ≤ 8192) ∧ q = (s, 0) := by
  obtain ⟨l0, l1, l2, l3⟩ := h.len
  rw [em_X13_feed]; unfold dm_X13_feed
  rw [e_X13_in, Option.bind_some]
  by_cases c : 1 ≤ m ∧ m ≤ 8
  · rw [if_pos (show ¬ m < 1 ∧ ¬ 8 < m by omega), if_neg (show ¬ (1 : Int) = 0 by decide), l2, W32_in (by omega) (by omega)]
    by_cases d : 8192 < n + m
    · rw [if_pos d, Wz_0]; exact jS_end (.inr ⟨fun z => by omega, rfl⟩)
    · rw [if_neg d, eu_X13_feed_30]; unfold du_X13_feed_30
      refine jS_for (fun k u => jFx s u (O + 1229) 2 ∧ wB u (O + 1229) 8192 (gFd g n v k) (n + k)) (fun k => [O, m, v, k]) 0 m (by omega) ⟨jFx.rfl, by rw [gFd_0, Int.add_zero]; exact h.1⟩ (fun k u k0 k1 ⟨e1, e2⟩ => ?_) (fun u ⟨e1, e2⟩ => ?_)
      · show jE (b_X13_feed_30 u O m v k) _
        unfold b_X13_feed_30
        rw [if_pos k1, w56 k0 (by omega)]
        refine jS_call (c_p1 e2 (by omega) _) fun q ⟨r1, r2⟩ => ?_
        rw [W32_in (by omega) (by omega)]
        exact jS_end ⟨rfl, e1.trans r1, by rw [gFd_s k0] at r2; rw [← Int.add_assoc]; exact r2⟩
      · show jE (b_X13_feed_30 u O m v m) _
        unfold b_X13_feed_30
        rw [if_neg (by omega), Wz_1]
        exact jS_inr (jS_end (.inl ⟨⟨c.1, c.2, by omega⟩, rfl, e1, e2, by omega, h.2.2.ext e1.2⟩))
  · rw [if_neg (show ¬ (¬ m < 1 ∧ ¬ 8 < m) by omega), if_pos rfl, Wz_0]; exact jS_end (.inr ⟨fun z => by omega, rfl⟩)
theorem c_fcut (h : fB s (O + 1229) g n) : jE (m_X13_cut s O m) fun q => (0 ≤ m ∧ m ≤ n) ∧ q.2 = 1 ∧ jFx s q.1 (O + 1229) 2 ∧ fB q.1 (O + 1229) g m ∨ ¬ (0 ≤ m ∧ m ≤ n) ∧ q = (s, 0) := by
  obtain ⟨l0, l1, l2, l3⟩ := h.len
  rw [em_X13_cut]; unfold dm_X13_cut
  rw [e_X13_in, Option.bind_some, l2]
  by_cases c : 0 ≤ m ∧ m ≤ n
  · rw [if_pos (show ¬ m < 0 ∧ ¬ n < m by omega), if_neg (show ¬ (1 : Int) = 0 by decide)]
    simp only [jls]
    rw [Wz_1]
    have g1 : jFx s (jp s 23 (O + 1229) 1 m) (O + 1229) 2 := jFx.rfl.jp rfl (by omega) (by omega)
    refine jS_end (.inl ⟨c, rfl, g1, ⟨by rw [g1.N]; exact l3, c.1, .inl ⟨by omega, ?_, by (repeat (first | rw [jf_neg (by omega)] | rw [jf_pos (by omega)] | rw [ou_neg (by omega)] | rw [ou_pos (by omega)])), fun i i0 i1 => by (repeat (first | rw [jf_neg (by omega)] | rw [jf_pos (by omega)] | rw [ou_neg (by omega)] | rw [ou_pos (by omega)])); exact ⟨h.at i0 (by omega), h.by i i0 (by omega)⟩⟩⟩, by omega, h.2.2.ext g1.2⟩)
    (repeat (first | rw [jf_neg (by omega)] | rw [jf_pos (by omega)] | rw [ou_neg (by omega)] | rw [ou_pos (by omega)]))
    obtain ⟨⟨a, b, c⟩, d, -⟩ := h
    rcases c with c | c
    · exact c.2.1
    · omega
  · rw [if_neg (show ¬ (¬ m < 0 ∧ ¬ n < m) by omega), if_pos rfl, Wz_0]; exact jS_end (.inr ⟨c, rfl⟩)
theorem c_fbyte (h : fB s (O + 1229) g n) : m_X13_byteAt s O k = some (if 0 ≤ k ∧ k < n then g k else -1) := by
  obtain ⟨l0, l1, l2, l3⟩ := h.len
  rw [e_X13_byteAt _ _ _ (by rw [l2, l3, W32_in (by omega) (by omega)]; omega), l2, W32_in (by omega) (by omega)]
  by_cases c : 0 ≤ k ∧ k < n
  · rw [if_pos (show ¬ k < 0 ∧ ¬ n - 1 < k by omega), if_pos c, h.at c.1 c.2, sb_and (h.by k c.1 c.2).1 (h.by k c.1 c.2).2]
  · rw [if_neg (show ¬ (¬ k < 0 ∧ ¬ n - 1 < k) by omega), if_neg c]
theorem c_fsize (h : fB s (O + 1229) g n) : m_X13_size s O = some n := by rw [e_X13_size, h.len.2.2.1]
/-- one byte is another -/
def gSp (g : Int → Int) (k b : Int) : Int → Int := fun i => if i = k then b % 256 else g i
theorem gSp_by (h : byG g n) : byG (gSp g k b) n := fun i i0 i1 => by
  unfold gSp
  by_cases c : i = k
  · rw [if_pos c]; omega
  · rw [if_neg c]; exact h i i0 i1
theorem c_fspoil (h : fB s (O + 1229) g n) : jE (m_X13_spoil s O k b) fun q => (0 ≤ k ∧ k < n) ∧ q.2 = g k ∧ jFx s q.1 (O + 1229) 2 ∧ fB q.1 (O + 1229) (gSp g k b) n ∨ ¬ (0 ≤ k ∧ k < n) ∧ q = (s, -1) := by
  obtain ⟨l0, l1, l2, l3⟩ := h.len
  rw [em_X13_spoil]; unfold dm_X13_spoil
  rw [e_X13_in, Option.bind_some, l2, W32_in (by omega) (by omega)]
  by_cases c : 0 ≤ k ∧ k < n
  · rw [if_pos (show ¬ k < 0 ∧ ¬ n - 1 < k by omega), if_neg (show ¬ (1 : Int) = 0 by decide), c_u1 h c.1 c.2, Option.bind_some, l3, jst_in c.1 (by omega), Option.bind_some, W8_W8]
    have g1 : jFx s (jp s 1001 ((O + 1229) + 1) k (sb (b % 256))) (O + 1229) 2 := jFx.rfl.jp (jSs_a (by omega) rfl _) (by omega) (by omega)
    refine jS_end (.inl ⟨c, rfl, g1, ⟨by rw [g1.N]; exact l3, l0, .inl ⟨by omega, ?_, by (repeat (first | rw [jf_neg (by omega)] | rw [jf_pos (by omega)] | rw [ou_neg (by omega)] | rw [ou_pos (by omega)])); exact l2, fun i i0 i1 => ?_⟩⟩, by omega, h.2.2.ext g1.2⟩)
    · (repeat (first | rw [jf_neg (by omega)] | rw [jf_pos (by omega)] | rw [ou_neg (by omega)] | rw [ou_pos (by omega)]))
      obtain ⟨⟨a, b, c⟩, d, -⟩ := h
      rcases c with c | c
      · exact c.2.1
      · omega
    · unfold gSp
      by_cases e : i = k
      · subst e; rw [if_pos rfl]; (repeat (first | rw [jf_neg (by omega)] | rw [jf_pos (by omega)] | rw [ou_neg (by omega)] | rw [ou_pos (by omega)])); exact ⟨rfl, by omega⟩
      · rw [if_neg e]; (repeat (first | rw [jf_neg (by omega)] | rw [jf_pos (by omega)] | rw [ou_neg (by omega)] | rw [ou_pos (by omega)])); exact ⟨h.at i0 i1, h.by i i0 i1⟩
  · rw [if_neg (show ¬ (¬ k < 0 ∧ ¬ n - 1 < k) by omega), if_pos rfl]; exact jS_end (.inr ⟨c, rfl⟩)
theorem i_ffeed (h : iB s (O + 19) g n) : jE (m_X22_feed s O m v) fun q => (1 ≤ m ∧ m ≤ 8 ∧ n + m ≤ 16384) ∧ q.2 = 1 ∧ jFx s q.1 (O + 19) 2 ∧ iB q.1 (O + 19) (gFd g n v m) (n + m) ∨ ¬ (1 ≤ m ∧ m ≤ 8 ∧ n + m ≤ 16384) ∧ q = (s, 0) := by
  obtain ⟨⟨l2, l0, lb, la⟩, l1, lt⟩ := h
  rw [em_X22_feed]; unfold dm_X22_feed
  rw [e_X22_in, Option.bind_some]
  by_cases c : 1 ≤ m ∧ m ≤ 8
  · rw [if_pos (show ¬ m < 1 ∧ ¬ 8 < m by omega), if_neg (show ¬ (1 : Int) = 0 by decide), l2, W32_in (by omega) (by omega)]
    by_cases d : 16384 < n + m
    · rw [if_pos d, Wz_0]; exact jS_end (.inr ⟨fun z => by omega, rfl⟩)
    · rw [if_neg d, eu_X22_feed_32]; unfold du_X22_feed_32
      refine jS_for (fun k u => jFx s u (O + 19) 2 ∧ iw u (O + 19) (gFd g n v k) (n + k)) (fun k => [O, m, v, k]) 0 m (by omega) ⟨jFx.rfl, by rw [gFd_0, Int.add_zero]; exact ⟨l2, l0, fun i i0 i1 => ⟨lb i i0 i1, fun _ => la i i0 i1⟩⟩⟩ (fun k u k0 k1 ⟨e1, e2⟩ => ?_) (fun u ⟨e1, e2⟩ => ?_)
      · show jE (b_X22_feed_32 u O m v k) _
        unfold b_X22_feed_32
        rw [if_pos k1, w56 k0 (by omega)]
        refine jS_call (i_p1 e2 (by omega) _) fun q ⟨r1, r2⟩ => ?_
        rw [W32_in (by omega) (by omega)]
        exact jS_end ⟨rfl, e1.trans r1, by rw [gFd_s k0] at r2; rw [← Int.add_assoc]; exact r2⟩
      · show jE (b_X22_feed_32 u O m v m) _
        unfold b_X22_feed_32
        rw [if_neg (by omega), Wz_1]
        exact jS_inr (jS_end (.inl ⟨⟨c.1, c.2, by omega⟩, rfl, e1, ⟨e2.1, e2.2.1, gFd_by lb, fun i i0 i1 => (e2.2.2 i i0 i1).2 (by omega)⟩, by omega, lt.ext e1.2⟩))
  · rw [if_neg (show ¬ (¬ m < 1 ∧ ¬ 8 < m) by omega), if_pos rfl, Wz_0]; exact jS_end (.inr ⟨fun z => by omega, rfl⟩)
theorem i_fcut (h : iB s (O + 19) g n) : jE (m_X22_cut s O m) fun q => (0 ≤ m ∧ m ≤ n) ∧ q.2 = 1 ∧ jFx s q.1 (O + 19) 2 ∧ iB q.1 (O + 19) g m ∨ ¬ (0 ≤ m ∧ m ≤ n) ∧ q = (s, 0) := by
  obtain ⟨⟨l2, l0, lb, la⟩, l1, lt⟩ := h
  rw [em_X22_cut]; unfold dm_X22_cut
  rw [e_X22_in, Option.bind_some, l2]
  by_cases c : 0 ≤ m ∧ m ≤ n
  · rw [if_pos (show ¬ m < 0 ∧ ¬ n < m by omega), if_neg (show ¬ (1 : Int) = 0 by decide)]
    simp only [jls]
    rw [Wz_1]
    have g1 : jFx s (jp s 29 (O + 19) 1 m) (O + 19) 2 := jFx.rfl.jp rfl (by omega) (by omega)
    exact jS_end (.inl ⟨c, rfl, g1, ⟨by (repeat (first | rw [jf_neg (by omega)] | rw [jf_pos (by omega)] | rw [ou_neg (by omega)] | rw [ou_pos (by omega)])), c.1, fun i i0 i1 => lb i i0 (by omega), fun i i0 i1 => by (repeat (first | rw [jf_neg (by omega)] | rw [jf_pos (by omega)] | rw [ou_neg (by omega)] | rw [ou_pos (by omega)])); exact la i i0 (by omega)⟩, by omega, lt.ext g1.2⟩)
  · rw [if_neg (show ¬ (¬ m < 0 ∧ ¬ n < m) by omega), if_pos rfl, Wz_0]; exact jS_end (.inr ⟨c, rfl⟩)
theorem i_fbyte (h : iB s (O + 19) g n) : m_X22_byteAt s O k = some (if 0 ≤ k ∧ k < n then g k else -1) := by
  obtain ⟨⟨l2, l0, lb, la⟩, l1, lt⟩ := h
  rw [e_X22_byteAt _ _ _ (by rw [l2, W32_in (by omega) (by omega)]; omega), l2, W32_in (by omega) (by omega)]
  by_cases c : 0 ≤ k ∧ k < n
  · rw [if_pos (show ¬ k < 0 ∧ ¬ n - 1 < k by omega), if_pos c, la k c.1 c.2, sb_and (lb k c.1 c.2).1 (lb k c.1 c.2).2]
  · rw [if_neg (show ¬ (¬ k < 0 ∧ ¬ n - 1 < k) by omega), if_neg c]
theorem i_fsize (h : iB s (O + 19) g n) : m_X22_size s O = some n := by rw [e_X22_size, h.1.1]
theorem i_fspoil (h : iB s (O + 19) g n) : jE (m_X22_spoil s O k b) fun q => (0 ≤ k ∧ k < n) ∧ q.2 = g k ∧ jFx s q.1 (O + 19) 2 ∧ iB q.1 (O + 19) (gSp g k b) n ∨ ¬ (0 ≤ k ∧ k < n) ∧ q = (s, -1) := by
  have h' := h
  obtain ⟨⟨l2, l0, lb, la⟩, l1, lt⟩ := h
  rw [em_X22_spoil]; unfold dm_X22_spoil
  rw [e_X22_in, Option.bind_some, l2, W32_in (by omega) (by omega)]
  by_cases c : 0 ≤ k ∧ k < n
  · rw [if_pos (show ¬ k < 0 ∧ ¬ n - 1 < k by omega), if_neg (show ¬ (1 : Int) = 0 by decide), i_u1 h' c.1 c.2, Option.bind_some, jst_in c.1 (by omega), Option.bind_some, W8_W8]
    have g1 : jFx s (jp s 1001 ((O + 19) + 1) k (sb (b % 256))) (O + 19) 2 := jFx.rfl.jp (jSs_a (by omega) rfl _) (by omega) (by omega)
    refine jS_end (.inl ⟨c, rfl, g1, ⟨by (repeat (first | rw [jf_neg (by omega)] | rw [jf_pos (by omega)] | rw [ou_neg (by omega)] | rw [ou_pos (by omega)])); exact l2, l0, gSp_by lb, fun i i0 i1 => ?_⟩, by omega, lt.ext g1.2⟩)
    unfold gSp
    by_cases e : i = k
    · subst e; rw [if_pos rfl]; (repeat (first | rw [jf_neg (by omega)] | rw [jf_pos (by omega)] | rw [ou_neg (by omega)] | rw [ou_pos (by omega)]))
    · rw [if_neg e]; (repeat (first | rw [jf_neg (by omega)] | rw [jf_pos (by omega)] | rw [ou_neg (by omega)] | rw [ou_pos (by omega)])); exact la i i0 i1
  · rw [if_neg (show ¬ (¬ k < 0 ∧ ¬ n - 1 < k) by omega), if_pos rfl]; exact jS_end (.inr ⟨c, rfl⟩)
end jFiles
