/-! files: what is fed, cut, spoiled, asked, on both sides -/
section jFiles2
variable {s t u : jS} {C T O X B n m k b v i : Int} {g g' : Int → Int}
/-- the file of a unit lies there -/
def fAt (C u : Int) : Int := (C + 275) + 4041 + 1858 * u
def fRow (t : jS) (a o : Int) (g : Int → Int) (n : Int) : Prop := ∀ k, 0 ≤ k → k < n → jf t 1000 a (o + k) = g k
def uFl (s : jS) (C : Int) (t : jS) (T u : Int) : Prop := ∃ g n, fB s (fAt C u + 1229) g n ∧ jf t 1000 (T + 2) u = n ∧ fRow t (T + 1) (8192 * u) g n
def vFl (s : jS) (C : Int) (t : jS) (T : Int) : Prop := ∃ g n, iB s (C + 3992 + 19) g n ∧ jf t 41 T 3 = n ∧ fRow t (T + 3) 0 g n
def Fls (s : jS) (C : Int) (t : jS) (T : Int) : Prop := (∀ u, 0 ≤ u → u < 6 → uFl s C t T u) ∧ vFl s C t T
/-- only files of the twin, what is thrown -/
def tFf (t q : jS) (T : Int) : Prop := jSm t q ∧ ∀ c a k, ¬ (c = 1000 ∧ T + 1 ≤ a ∧ a ≤ T + 3) → ¬ (c = 41 ∧ a = T ∧ (k = 3 ∨ k = 4)) → jf q c a k = jf t c a k
theorem tFf.rfl : tFf t t T := ⟨jSm.rfl, fun _ _ _ _ _ => Eq.refl _⟩
theorem tFf.r {c a k v : Int} (h : tFf t u T) (h' : c = 1000 ∧ T + 1 ≤ a ∧ a ≤ T + 3 ∨ c = 41 ∧ a = T ∧ (k = 3 ∨ k = 4)) : tFf t (jp u c a k v) T := ⟨h.1.jp, fun c' a' k' h1 h2 => by
  rw [jf_jp, if_neg (fun z => by obtain ⟨z1, z2, z3⟩ := z; subst z1 z2 z3; rcases h' with w | w; exact h1 w; exact h2 w)]; exact h.2 c' a' k' h1 h2⟩
/-- only the bytes of a file of the component -/
def cFf (s r : jS) (C : Int) : Prop := s = r ∨ jFx s r (C + 3992 + 19) 2 ∨ ∃ u, 0 ≤ u ∧ u < 6 ∧ jFx s r (fAt C u + 1229) 2
theorem uFl.kp {u : Int} {r q : jS} {lo m : Int} (h : uFl s C t T u) (k : jFx s r lo m) (d : fAt C u + 1231 ≤ lo ∨ lo + m ≤ fAt C u + 1229) (e : ∀ a k, a = T + 2 ∧ k = u ∨ a = T + 1 ∧ 8192 * u ≤ k ∧ k < 8192 * u + 8192 → jf q 1000 a k = jf t 1000 a k) : uFl r C q T u := by
  obtain ⟨g, n, h1, h2, h3⟩ := h
  have := h1.len
  exact ⟨g, n, h1.kf k (by omega), by rw [e _ _ (.inl ⟨Eq.refl _, Eq.refl _⟩)]; exact h2, fun j j0 j1 => by rw [e _ _ (.inr ⟨Eq.refl _, by omega, by omega⟩)]; exact h3 j j0 j1⟩
theorem vFl.kp {r q : jS} {lo m : Int} (h : vFl s C t T) (k : jFx s r lo m) (d : C + 4013 ≤ lo ∨ lo + m ≤ C + 4011) (e : jf q 41 T 3 = jf t 41 T 3) (e' : ∀ k, jf q 1000 (T + 3) k = jf t 1000 (T + 3) k) : vFl r C q T := by
  obtain ⟨g, n, h1, h2, h3⟩ := h
  exact ⟨g, n, h1.kf k (by omega), by rw [e]; exact h2, fun j j0 j1 => by rw [e']; exact h3 j j0 j1⟩
/-- the twin's bytes come one by one -/
theorem bE_t (hv : -9223372036854775808 ≤ v ∧ v ≤ 9223372036854775807) (k0 : 0 ≤ k) (k1 : k < 8) : L2i (L_and (L_shr v (W32 (56 - W32 (8 * k)))) 255) = bE v k := by
  rw [w56 k0 k1, L_and_255, l2i_in (by omega) (by omega)]
  unfold bE; rw [l2i_p]; have := W32_mod (L_shr v (56 - 8 * k)); omega
/-- a fact about the twin's row: written on from n -/
theorem fRow.fd {o : Int} (h : fRow t b o g n) (hq : ∀ k, jf u 1000 b k = if o + n ≤ k ∧ k < o + n + m then bE v (k - (o + n)) else jf t 1000 b k) : fRow u b o (gFd g n v m) (n + m) := fun j j0 j1 => by
  rw [hq]; unfold gFd
  by_cases c : n ≤ j ∧ j < n + m
  · rw [if_pos (by omega), if_pos c, show o + j - (o + n) = j - n by omega]
  · rw [if_neg (by omega), if_neg c]; exact h j j0 (by omega)
/-- where the size of a file is kept -/
def isSz (x T c a k : Int) : Prop := x = -1 ∧ c = 41 ∧ a = T ∧ k = 3 ∨ ¬ x = -1 ∧ c = 1000 ∧ a = T + 2 ∧ k = x
theorem T_feed {o : Int} (x : Int) (hv : -9223372036854775808 ≤ v ∧ v ≤ 9223372036854775807) (n0 : 0 ≤ n) (m0 : 1 ≤ m) (m1 : m ≤ 8) (hx : x = -1 ∧ b = T + 3 ∧ o = 0 ∧ n + m ≤ 16384 ∧ jf t 41 T 3 = n ∨ (0 ≤ x ∧ x < 6) ∧ b = T + 1 ∧ o = 8192 * x ∧ n + m ≤ 8192 ∧ jf t 1000 (T + 2) x = n) :
    jE (u_X37_extend_76 t T x m v n 0) fun q => q.2 = 1 ∧ tFf t q.1 T ∧ (∀ k, jf q.1 1000 b k = if o + n ≤ k ∧ k < o + n + m then bE v (k - (o + n)) else jf t 1000 b k) ∧ (∀ c a k, ¬ (c = 1000 ∧ a = b) → ¬ isSz x T c a k → jf q.1 c a k = jf t c a k) ∧ ∀ c a k, isSz x T c a k → jf q.1 c a k = n + m := by
  rw [eu_X37_extend_76]; unfold du_X37_extend_76
  refine jS_for (fun j u => tFf t u T ∧ (∀ k, jf u 1000 b k = if o + n ≤ k ∧ k < o + n + j then bE v (k - (o + n)) else jf t 1000 b k) ∧ ∀ c a k, ¬ (c = 1000 ∧ a = b) → jf u c a k = jf t c a k) (fun j => [T, x, m, v, n, j]) 0 m (by omega) ⟨tFf.rfl, fun k => by rw [if_neg (by omega)], fun _ _ _ _ => rfl⟩ (fun j u j0 j1 ⟨e1, e2, e3⟩ => ?_) (fun u ⟨e1, e2, e3⟩ => ?_)
  · show jE (b_X37_extend_76 u T x m v n j) _
    unfold b_X37_extend_76
    rw [if_pos j1]
    simp only [jlet]
    rw [bE_t hv j0 (by omega)]
    have st : ∀ z, z = o + n + j → (fun w : jS => tFf t w T ∧ (∀ k, jf w 1000 b k = if o + n ≤ k ∧ k < o + n + (j + 1) then bE v (k - (o + n)) else jf t 1000 b k) ∧ ∀ c a k, ¬ (c = 1000 ∧ a = b) → jf w c a k = jf t c a k) (jp u 1000 b z (bE v j)) := fun z hz => by
      refine ⟨e1.r (.inl ⟨rfl, by omega, by omega⟩), fun k => ?_, fun c a k h => by rw [jf_neg (by omega)]; exact e3 c a k h⟩
      by_cases c : k = z
      · subst c; rw [jf_pos ⟨rfl, rfl, rfl⟩, if_pos (by omega), hz, show o + n + j - (o + n) = j by omega]
      · rw [jf_neg (by omega), e2]
        by_cases d : o + n ≤ k ∧ k < o + n + j
        · rw [if_pos d, if_pos (by omega)]
        · rw [if_neg d, if_neg (by omega)]
    rcases hx with ⟨h1, h2, h3, h4, -⟩ | ⟨h1, h2, h3, h4, -⟩
    · rw [if_pos h1, W32_in (z := n + j) (by omega) (by omega), jst_in (by omega) (by omega), Option.bind_some, eu_X37_extend_137]; unfold du_X37_extend_137
      rw [W32_in (z := j + 1) (by omega) (by omega)]
      have := st (n + j) (by omega)
      rw [h2] at this ⊢
      exact jS_end ⟨rfl, this⟩
    · rw [if_neg (by omega), W32_in (z := 8192 * x) (by omega) (by omega), W32_in (z := 8192 * x + n) (by omega) (by omega), W32_in (z := 8192 * x + n + j) (by omega) (by omega), jst_in (by omega) (by omega), Option.bind_some, eu_X37_extend_137]; unfold du_X37_extend_137
      rw [W32_in (z := j + 1) (by omega) (by omega)]
      have := st (8192 * x + n + j) (by omega)
      rw [h2] at this ⊢
      exact jS_end ⟨rfl, this⟩
  · show jE (b_X37_extend_76 u T x m v n m) _
    unfold b_X37_extend_76
    rw [if_neg (by omega)]
    refine jS_inr ?_
    rw [eu_X37_extend_143]; unfold du_X37_extend_143
    rcases hx with ⟨h1, h2, h3, h4, h5⟩ | ⟨h1, h2, h3, h4, h5⟩
    · rw [if_pos h1]
      simp only [jls]
      rw [e3 41 T 3 (by omega), h5, W32_in (by omega) (by omega), Wz_1]
      refine jS_end ⟨rfl, e1.r (.inr ⟨rfl, rfl, .inl rfl⟩), fun k => by rw [jf_neg (by omega)]; exact e2 k, fun c a k hn hz => ?_, fun c a k hz => ?_⟩
      · rw [jf_neg (fun z => hz (.inl ⟨h1, z.1, z.2.1, z.2.2⟩))]; exact e3 c a k hn
      · rcases hz with hz | hz
        · exact jf_pos ⟨hz.2.1, hz.2.2.1, hz.2.2.2⟩
        · exact absurd h1 hz.1
    · have nx : ¬ x = -1 := by omega
      rw [if_neg nx, jlt_in h1.1 h1.2, Option.bind_some, jst_in h1.1 h1.2, Option.bind_some, e3 1000 (T + 2) x (by omega), h5, W32_in (by omega) (by omega), Wz_1]
      refine jS_end ⟨rfl, e1.r (.inl ⟨rfl, by omega, by omega⟩), fun k => by rw [jf_neg (by omega)]; exact e2 k, fun c a k hn hz => ?_, fun c a k hz => ?_⟩
      · rw [jf_neg (fun z => hz (.inr ⟨nx, z.1, z.2.1, z.2.2⟩))]; exact e3 c a k hn
      · rcases hz with hz | hz
        · exact absurd hz.1 nx
        · exact jf_pos ⟨hz.2.1, hz.2.2.1, hz.2.2.2⟩
/-- the twin forgets what was thrown -/
theorem Fls.th {z : Int} (h : Fls s C t T) : Fls s C (jp t 41 T 4 z) T := ⟨fun u u0 u1 => by
  obtain ⟨g, n, h1, h2, h3⟩ := h.1 u u0 u1
  exact ⟨g, n, h1, by (repeat (first | rw [jf_neg (by omega)] | rw [jf_pos (by omega)] | rw [ou_neg (by omega)] | rw [ou_pos (by omega)])); exact h2, fun j j0 j1 => by (repeat (first | rw [jf_neg (by omega)] | rw [jf_pos (by omega)] | rw [ou_neg (by omega)] | rw [ou_pos (by omega)])); exact h3 j j0 j1⟩, by
  obtain ⟨g, n, h1, h2, h3⟩ := h.2
  exact ⟨g, n, h1, by (repeat (first | rw [jf_neg (by omega)] | rw [jf_pos (by omega)] | rw [ou_neg (by omega)] | rw [ou_pos (by omega)])); exact h2, fun j j0 j1 => by (repeat (first | rw [jf_neg (by omega)] | rw [jf_pos (by omega)] | rw [ou_neg (by omega)] | rw [ou_pos (by omega)])); exact h3 j j0 j1⟩⟩
/-- what a call on files leaves -/
def FlQ (s : jS) (C : Int) (t : jS) (T : Int) (r q : jS) : Prop := Fls r C q T ∧ cFf s r C ∧ tFf t q T ∧ jf q 41 T 4 = 0
theorem FlQ.no (h : Fls s C t T) : FlQ s C t T s (jp t 41 T 4 0) := ⟨h.th, .inl rfl, tFf.rfl.r (.inr ⟨rfl, rfl, .inr rfl⟩), jf_pos ⟨rfl, rfl, rfl⟩⟩
/-- the file of one changes -/
theorem FlQ.unit {r q : jS} {x : Int} (h : Fls s C t T) (x0 : 0 ≤ x) (x1 : x < 6) (k : jFx s r (fAt C x + 1229) 2) (w : tFf t q T) (hz : jf q 41 T 4 = 0) (hb : fB r (fAt C x + 1229) g n) (hs : jf q 1000 (T + 2) x = n) (hr : fRow q (T + 1) (8192 * x) g n)
    (e : ∀ c a k, ¬ (c = 1000 ∧ a = T + 1 ∧ 8192 * x ≤ k ∧ k < 8192 * x + 8192) → ¬ (c = 1000 ∧ a = T + 2 ∧ k = x) → ¬ (c = 41 ∧ a = T ∧ k = 4) → jf q c a k = jf t c a k) : FlQ s C t T r q := by
  refine ⟨⟨fun u u0 u1 => ?_, h.2.kp k (by unfold fAt; omega) (e _ _ _ (by omega) (by omega) (by omega)) fun k => e _ _ _ (by omega) (by omega) (by omega)⟩, .inr (.inr ⟨x, x0, x1, k⟩), w, hz⟩
  by_cases c : u = x
  · subst c; exact ⟨g, n, hb, hs, hr⟩
  · exact (h.1 u u0 u1).kp k (by unfold fAt; omega) fun a k ha => e _ _ _ (by omega) (by omega) (by omega)
theorem FlQ.img {r q : jS} (h : Fls s C t T) (k : jFx s r (C + 3992 + 19) 2) (w : tFf t q T) (hz : jf q 41 T 4 = 0) (hb : iB r (C + 3992 + 19) g n) (hs : jf q 41 T 3 = n) (hr : fRow q (T + 3) 0 g n)
    (e : ∀ c a k, ¬ (c = 1000 ∧ a = T + 3) → ¬ (c = 41 ∧ a = T) → jf q c a k = jf t c a k) : FlQ s C t T r q :=
  ⟨⟨fun u u0 u1 => (h.1 u u0 u1).kp k (by unfold fAt; omega) fun a k ha => e _ _ _ (by omega) (by omega), ⟨g, n, hb, hs, hr⟩⟩, .inr (.inl k), w, hz⟩
theorem T_ext1 (hk : k = -1) (hs : jf t 41 T 3 = n) (n0 : 0 ≤ n) (n1 : n ≤ 16384) : u_X37_extend_17 t T k m v = if 1 ≤ m ∧ m ≤ 8 ∧ n + m ≤ 16384 then u_X37_extend_76 t T k m v n 0 else some (t, 0) := by
  rw [eu_X37_extend_17]; unfold du_X37_extend_17
  by_cases c1 : m < 1
  · rw [if_pos c1, if_neg (by omega), Wz_0]
  by_cases c2 : 8 < m
  · rw [if_neg c1, if_pos c2, if_neg (by omega), Wz_0]
  rw [if_neg c1, if_neg c2, if_pos hk, hs, eu_X37_extend_48]; unfold du_X37_extend_48
  rw [if_pos hk, W32_in (by omega) (by omega), eu_X37_extend_68]; unfold du_X37_extend_68
  by_cases c3 : 16384 < n + m
  · rw [if_pos c3, if_neg (by omega), Wz_0]
  · rw [if_neg c3, if_pos (by omega)]
theorem T_ext2 (k0 : 0 ≤ k) (k1 : k < 6) (hs : jf t 1000 (T + 2) k = n) (n0 : 0 ≤ n) (n1 : n ≤ 8192) : u_X37_extend_17 t T k m v = if 1 ≤ m ∧ m ≤ 8 ∧ n + m ≤ 8192 then u_X37_extend_76 t T k m v n 0 else some (t, 0) := by
  have hk : ¬ k = -1 := by omega
  rw [eu_X37_extend_17]; unfold du_X37_extend_17
  by_cases c1 : m < 1
  · rw [if_pos c1, if_neg (by omega), Wz_0]
  by_cases c2 : 8 < m
  · rw [if_neg c1, if_pos c2, if_neg (by omega), Wz_0]
  rw [if_neg c1, if_neg c2, if_neg hk, jlt_in k0 k1, Option.bind_some, hs, eu_X37_extend_48]; unfold du_X37_extend_48
  rw [if_neg hk, W32_in (by omega) (by omega), eu_X37_extend_68]; unfold du_X37_extend_68
  by_cases c3 : 8192 < n + m
  · rw [if_pos c3, if_neg (by omega), Wz_0]
  · rw [if_neg c3, if_pos (by omega)]
theorem isU1 (k0 : 0 ≤ k) (k1 : k < 6) : m_X1_isUnit s k = some 1 ∧ m_X37_isUnit t k = some 1 := by
  rw [e_X1_isUnit, e_X37_isUnit, if_pos (by omega)]; exact ⟨rfl, rfl⟩
theorem isU0 (h : ¬ (0 ≤ k ∧ k < 6)) : m_X1_isUnit s k = some 0 ∧ m_X37_isUnit t k = some 0 := by
  rw [e_X1_isUnit, e_X37_isUnit, if_neg (by omega)]; exact ⟨rfl, rfl⟩
theorem f_extend2 (h : Fls s C t T) (hv : -9223372036854775808 ≤ v ∧ v ≤ 9223372036854775807) : jE2 (m_X1_extend s C k m v) (m_X37_extend t T k m v) fun r q => r.2 = q.2 ∧ FlQ s C t T r.1 q.1 := by
  rw [em_X1_extend, em_X37_extend]; unfold dm_X1_extend dm_X37_extend
  simp only [jls]
  have z0 : jf (jp t 41 T 4 0) 41 T 4 = 0 := jf_pos ⟨rfl, rfl, rfl⟩
  have w0 : tFf t (jp t 41 T 4 0) T := tFf.rfl.r (.inr ⟨rfl, rfl, .inr rfl⟩)
  have no := FlQ.no h
  have e0 : ∀ c a k, ¬ (c = 41 ∧ a = T ∧ k = 4) → jf (jp t 41 T 4 0) c a k = jf t c a k := fun c a k hc => jf_neg (by omega)
  generalize jp t 41 T 4 0 = t1 at *
  by_cases c : k = -1
  · obtain ⟨g, n, hb, hs, hr⟩ := h.2
    obtain ⟨l0, l1⟩ : 0 ≤ n ∧ n ≤ 16384 := ⟨hb.1.2.1, hb.2.1⟩
    have hs1 : jf t1 41 T 3 = n := by rw [e0 _ _ _ (by omega)]; exact hs
    rw [if_pos c, if_pos c, T_ext1 c hs1 l0 l1]
    refine jS_two (jS_call (i_ffeed (v := v) (m := m) hb) fun r hq => jS_end ?_)
    rcases hq with ⟨d, r1, r2, r3⟩ | ⟨d, r1⟩
    · rw [if_pos d]
      refine jE_mono (T_feed (b := T + 3) (o := 0) k hv l0 d.1 d.2.1 (.inl ⟨c, rfl, rfl, d.2.2, hs1⟩)) fun q ⟨q1, q2, q3, q4, q5⟩ => ?_
      refine ⟨?_, ?_⟩
      · show Wz r.2 = q.2
        rw [r1, q1, Wz_1]
      refine FlQ.img h r2 ⟨w0.1.trans q2.1, fun c a k h1 h2 => (q2.2 c a k h1 h2).trans (w0.2 c a k h1 h2)⟩ (by rw [q4 _ _ _ (by omega) (by unfold isSz; omega)]; exact z0) r3 (q5 _ _ _ (.inl ⟨c, rfl, rfl, rfl⟩)) ?_ fun c' a' k' h1 h2 => by rw [q4 _ _ _ h1 (by unfold isSz; omega)]; exact e0 _ _ _ (by omega)
      exact fRow.fd (t := t1) (fun j j0 j1 => by rw [e0 _ _ _ (by omega)]; exact hr j j0 j1) q3
    · rw [if_neg d, r1]
      exact jS_end ⟨Wz_0, no⟩
  · rw [if_neg c, if_neg c]
    by_cases cu : 0 ≤ k ∧ k < 6
    · obtain ⟨g, n, hb, hs, hr⟩ := h.1 k cu.1 cu.2
      obtain ⟨l0, l1, -, -⟩ := hb.len
      have hs1 : jf t1 1000 (T + 2) k = n := by rw [e0 _ _ _ (by omega)]; exact hs
      rw [(isU1 (s := s) (t := t1) cu.1 cu.2).1, (isU1 (s := s) (t := t1) cu.1 cu.2).2, Option.bind_some, Option.bind_some, if_neg (by decide), if_neg (by decide), jix_in cu.1 cu.2, Option.bind_some, T_ext2 cu.1 cu.2 hs1 l0 l1]
      refine jS_two (jS_call (c_ffeed (O := (C + 275) + 4041 + 1858 * k) (v := v) (m := m) hb) fun r hq => ?_)
      rcases hq with ⟨d, r1, r2, r3⟩ | ⟨d, r1⟩
      · rw [if_pos d, r1, if_neg (by decide)]
        refine jS_end ?_
        refine jE_mono (T_feed (b := T + 1) (o := 8192 * k) k hv l0 d.1 d.2.1 (.inr ⟨cu, rfl, rfl, d.2.2, hs1⟩)) fun q ⟨q1, q2, q3, q4, q5⟩ => ?_
        refine ⟨?_, ?_⟩
        · show Wz 1 = q.2
          rw [q1, Wz_1]
        refine FlQ.unit h cu.1 cu.2 r2 ⟨w0.1.trans q2.1, fun c a k h1 h2 => (q2.2 c a k h1 h2).trans (w0.2 c a k h1 h2)⟩ (by rw [q4 _ _ _ (by omega) (by unfold isSz; omega)]; exact z0) r3 (q5 _ _ _ (.inr ⟨c, rfl, rfl, rfl⟩)) ?_ fun c' a' k' h1 h2 h3 => ?_
        · exact fRow.fd (t := t1) (fun j j0 j1 => by rw [e0 _ _ _ (by omega)]; exact hr j j0 j1) q3
        · by_cases e : c' = 1000 ∧ a' = T + 1
          · rw [e.1, e.2, q3, if_neg (by omega)]; exact e0 _ _ _ (by omega)
          · rw [q4 _ _ _ e (by unfold isSz; omega)]; exact e0 _ _ _ h3
      · rw [if_neg d, r1, if_pos rfl]
        exact jS_end (jS_end ⟨Wz_0, no⟩)
    · rw [(isU0 (s := s) (t := t1) cu).1, (isU0 (s := s) (t := t1) cu).2, Option.bind_some, Option.bind_some, if_pos rfl, if_pos rfl]
      exact jE2_mk rfl rfl ⟨rfl, no⟩
theorem f_cut2 (h : Fls s C t T) : jE2 (m_X1_cut s C k m) (m_X37_cut t T k m) fun r q => r.2 = q.2 ∧ FlQ s C t T r.1 q.1 := by
  rw [em_X1_cut, em_X37_cut]; unfold dm_X1_cut dm_X37_cut
  simp only [jls]
  have z0 : jf (jp t 41 T 4 0) 41 T 4 = 0 := jf_pos ⟨rfl, rfl, rfl⟩
  have w0 : tFf t (jp t 41 T 4 0) T := tFf.rfl.r (.inr ⟨rfl, rfl, .inr rfl⟩)
  have no := FlQ.no h
  have e0 : ∀ c a k, ¬ (c = 41 ∧ a = T ∧ k = 4) → jf (jp t 41 T 4 0) c a k = jf t c a k := fun c a k hc => jf_neg (by omega)
  generalize jp t 41 T 4 0 = t1 at *
  by_cases c : k = -1
  · obtain ⟨g, n, hb, hs, hr⟩ := h.2
    obtain ⟨l0, l1⟩ : 0 ≤ n ∧ n ≤ 16384 := ⟨hb.1.2.1, hb.2.1⟩
    have hs1 : jf t1 41 T 3 = n := by rw [e0 _ _ _ (by omega)]; exact hs
    rw [if_pos c, if_pos c, eu_X37_cut_17]; unfold du_X37_cut_17
    rw [if_pos c, hs1, eu_X37_cut_40]; unfold du_X37_cut_40
    rw [if_pos c]
    simp only [jls]
    refine jS_two (jS_call (i_fcut (m := m) hb) fun r hq => jS_end ?_)
    rcases hq with ⟨d, r1, r2, r3⟩ | ⟨d, r1⟩
    · rw [if_neg (show ¬ m < 0 by omega), if_neg (show ¬ n < m by omega)]
      refine jS_end ⟨by show Wz r.2 = Wz 1; rw [r1], ?_⟩
      exact FlQ.img h r2 (w0.r (.inr ⟨rfl, rfl, .inl rfl⟩)) (by (repeat (first | rw [jf_neg (by omega)] | rw [jf_pos (by omega)] | rw [ou_neg (by omega)] | rw [ou_pos (by omega)])); exact z0) r3 (jf_pos ⟨rfl, rfl, rfl⟩) (fun j j0 j1 => by rw [jf_neg (by omega), e0 _ _ _ (by omega)]; exact hr j j0 (by omega)) fun c' a' k' h1 h2 => by rw [jf_neg (by omega)]; exact e0 _ _ _ (by omega)
    · rw [r1]
      by_cases d1 : m < 0
      · rw [if_pos d1]; exact jS_end ⟨rfl, no⟩
      · rw [if_neg d1, if_pos (show n < m by omega)]; exact jS_end ⟨rfl, no⟩
  · rw [if_neg c, if_neg c]
    by_cases cu : 0 ≤ k ∧ k < 6
    · obtain ⟨g, n, hb, hs, hr⟩ := h.1 k cu.1 cu.2
      obtain ⟨l0, l1, -, -⟩ := hb.len
      have hs1 : jf t1 1000 (T + 2) k = n := by rw [e0 _ _ _ (by omega)]; exact hs
      rw [(isU1 (s := s) (t := t1) cu.1 cu.2).1, (isU1 (s := s) (t := t1) cu.1 cu.2).2, Option.bind_some, Option.bind_some, if_neg (by decide), if_neg (by decide), jix_in cu.1 cu.2, Option.bind_some, eu_X37_cut_17]; unfold du_X37_cut_17
      rw [if_neg c, jlt_in cu.1 cu.2, Option.bind_some, hs1, eu_X37_cut_40]; unfold du_X37_cut_40
      rw [if_neg c, jst_in cu.1 cu.2, Option.bind_some]
      refine jS_two (jS_call (c_fcut (O := (C + 275) + 4041 + 1858 * k) (m := m) hb) fun r hq => ?_)
      rcases hq with ⟨d, r1, r2, r3⟩ | ⟨d, r1⟩
      · rw [r1, if_neg (show ¬ (1 : Int) = 0 by decide), if_neg (show ¬ m < 0 by omega), if_neg (show ¬ n < m by omega)]
        refine jS_end (jS_end ⟨rfl, ?_⟩)
        exact FlQ.unit h cu.1 cu.2 r2 (w0.r (.inl ⟨rfl, by omega, by omega⟩)) (by (repeat (first | rw [jf_neg (by omega)] | rw [jf_pos (by omega)] | rw [ou_neg (by omega)] | rw [ou_pos (by omega)])); exact z0) r3 (jf_pos ⟨rfl, rfl, rfl⟩) (fun j j0 j1 => by rw [jf_neg (by omega), e0 _ _ _ (by omega)]; exact hr j j0 (by omega)) fun c' a' k' h1 h2 h3 => by rw [jf_neg (by omega)]; exact e0 _ _ _ h3
      · rw [r1, if_pos rfl]
        by_cases d1 : m < 0
        · rw [if_pos d1]; exact jS_end (jS_end ⟨rfl, no⟩)
        · rw [if_neg d1, if_pos (show n < m by omega)]; exact jS_end (jS_end ⟨rfl, no⟩)
    · rw [(isU0 (s := s) (t := t1) cu).1, (isU0 (s := s) (t := t1) cu).2, Option.bind_some, Option.bind_some, if_pos rfl, if_pos rfl]
      exact jE2_mk rfl rfl ⟨rfl, no⟩
theorem f_size2 (h : Fls s C t T) : jE2 (m_X1_size s C k) (m_X37_size t T k) fun r q => r = q.2 ∧ FlQ s C t T s q.1 := by
  rw [em_X1_size, em_X37_size]; unfold dm_X1_size dm_X37_size
  simp only [jls]
  have no := FlQ.no h
  have e0 : ∀ c a k, ¬ (c = 41 ∧ a = T ∧ k = 4) → jf (jp t 41 T 4 0) c a k = jf t c a k := fun c a k hc => jf_neg (by omega)
  generalize jp t 41 T 4 0 = t1 at *
  by_cases c : k = -1
  · obtain ⟨g, n, hb, hs, hr⟩ := h.2
    rw [if_pos c, if_pos c, i_fsize hb, e0 _ _ _ (by omega), hs, Option.bind_some]
    exact jE2_mk rfl rfl ⟨rfl, no⟩
  · rw [if_neg c, if_neg c]
    by_cases cu : 0 ≤ k ∧ k < 6
    · obtain ⟨g, n, hb, hs, hr⟩ := h.1 k cu.1 cu.2
      rw [(isU1 (s := s) (t := t1) cu.1 cu.2).1, (isU1 (s := s) (t := t1) cu.1 cu.2).2, Option.bind_some, Option.bind_some, if_neg (by decide), if_neg (by decide), jix_in cu.1 cu.2, Option.bind_some, jlt_in cu.1 cu.2, Option.bind_some, e0 _ _ _ (by omega), hs, c_fsize (O := (C + 275) + 4041 + 1858 * k) hb, Option.bind_some]
      exact jE2_mk rfl rfl ⟨rfl, no⟩
    · rw [(isU0 (s := s) (t := t1) cu).1, (isU0 (s := s) (t := t1) cu).2, Option.bind_some, Option.bind_some, if_pos rfl, if_pos rfl]
      exact jE2_mk rfl rfl ⟨rfl, no⟩
/-- what the twin tells of a byte -/
theorem T_byte (h : Fls s C t T) : m_X37_byteAt t T k i = (m_X1_byteAt s C k i).bind fun v => some (jp t 41 T 4 0, v) := by
  rw [em_X1_byteAt, em_X37_byteAt]; unfold dm_X1_byteAt dm_X37_byteAt
  simp only [jls]
  have e0 : ∀ c a k, ¬ (c = 41 ∧ a = T ∧ k = 4) → jf (jp t 41 T 4 0) c a k = jf t c a k := fun c a k hc => jf_neg (by omega)
  generalize jp t 41 T 4 0 = t1 at *
  by_cases c : k = -1
  · obtain ⟨g, n, hb, hs, hr⟩ := h.2
    obtain ⟨l0, l1⟩ : 0 ≤ n ∧ n ≤ 16384 := ⟨hb.1.2.1, hb.2.1⟩
    rw [if_pos c, if_pos c, i_fbyte hb, Option.bind_some, eu_X37_byteAt_17]; unfold du_X37_byteAt_17
    rw [if_pos c, e0 _ _ _ (by omega), hs, eu_X37_byteAt_40]; unfold du_X37_byteAt_40
    rw [if_pos c]
    by_cases d1 : i < 0
    · rw [if_pos d1, if_neg (by omega)]; rfl
    rw [if_neg d1]
    by_cases d2 : i < n
    · rw [if_pos d2, if_pos (by omega), jlt_in (by omega) (by omega), Option.bind_some, e0 _ _ _ (by omega)]
      have := hr i (by omega) d2
      rw [Int.zero_add] at this
      rw [this]; rfl
    · rw [if_neg d2, if_neg (by omega)]; rfl
  · rw [if_neg c, if_neg c]
    by_cases cu : 0 ≤ k ∧ k < 6
    · obtain ⟨g, n, hb, hs, hr⟩ := h.1 k cu.1 cu.2
      obtain ⟨l0, l1, -, -⟩ := hb.len
      rw [(isU1 (s := s) (t := t1) cu.1 cu.2).1, (isU1 (s := s) (t := t1) cu.1 cu.2).2, Option.bind_some, Option.bind_some, if_neg (by decide), if_neg (by decide), jix_in cu.1 cu.2, Option.bind_some, c_fbyte (O := (C + 275) + 4041 + 1858 * k) hb, Option.bind_some, eu_X37_byteAt_17]; unfold du_X37_byteAt_17
      rw [if_neg c, jlt_in cu.1 cu.2, Option.bind_some, e0 _ _ _ (by omega), hs, eu_X37_byteAt_40]; unfold du_X37_byteAt_40
      rw [if_neg c]
      by_cases d1 : i < 0
      · rw [if_pos d1, if_neg (by omega)]; rfl
      rw [if_neg d1]
      by_cases d2 : i < n
      · rw [if_pos d2, if_pos (by omega), W32_in (z := 8192 * k) (by omega) (by omega), W32_in (by omega) (by omega), jlt_in (by omega) (by omega), Option.bind_some, e0 _ _ _ (by omega), hr i (by omega) d2]; rfl
      · rw [if_neg d2, if_neg (by omega)]; rfl
    · rw [(isU0 (s := s) (t := t1) cu).1, (isU0 (s := s) (t := t1) cu).2, Option.bind_some, Option.bind_some, if_pos rfl, if_pos rfl]; rfl
end jFiles2
