/-! the component reads a file: numbers, what must be, the head -/
section jCread
variable {s t u : jS} {B N R n p f a b x y e k : Int} {g g' : Int → Int} {o : Int → Int → Int → Int} {L : List (Prop × Int × Int)} {c : Prop}
/-- a file: its bytes, how many -/
def fB (s : jS) (B : Int) (g : Int → Int) (n : Int) : Prop := wB s B 8192 g n ∧ n ≤ 8192 ∧ jTt s 39 B
theorem fB.by (h : fB s B g n) : byG g n := by
  obtain ⟨⟨a, b, c⟩, d, -⟩ := h
  rcases c with c | c
  · exact fun i i0 i1 => (c.2.2.2 i i0 i1).2
  · omega
theorem fB.n0 (h : fB s B g n) : 0 ≤ n := h.1.2.1
theorem fB.at (h : fB s B g n) (k0 : 0 ≤ k) (k1 : k < n) : jf s 1001 (B + 1) k = sb (g k) := by
  obtain ⟨⟨a, b, c⟩, d, -⟩ := h
  rcases c with c | c
  · exact (c.2.2.2 k k0 k1).1
  · omega
theorem fB.kf {lo m : Int} (h : fB s B g n) (k : jFx s t lo m) (d : B + 2 ≤ lo ∨ lo + m ≤ B) : fB t B g n := ⟨h.1.kf k d, h.2.1, h.2.2.ext k.2⟩
theorem I_or_r2 {x y : Int} (hx : 0 ≤ x ∧ x < 256) (hy : 0 ≤ y ∧ y < 256) : I_or x (I_shl y 8) = x + 256 * y := by
  rw [show I_shl y 8 = y * 256 from shl_n 8 (by decide) (by decide) (by omega) (by omega), I_or_lo 8 (by decide) hx.1 hx.2 (by omega), W32_in (by omega) (by omega)]; omega
theorem I_or_r4 {x y : Int} (hx : 0 ≤ x ∧ x < 65536) (hy : 0 ≤ y ∧ y < 65536) : I_or x (I_shl y 16) = W32 (x + 65536 * y) := by
  have e : I_shl y 16 = W32 (y * 65536) := i_shl_p (by omega) (by omega)
  have hm := W32_mod (y * 65536)
  rw [e, I_or_lo 16 (by decide) hx.1 hx.2 (by omega), W32_aR]; congr 1; omega
theorem c_u1 (h : fB s B g n) (k0 : 0 ≤ k) (k1 : k < n) : m_X19_u1 s B k = some (g k) := by
  have hb := h.by k k0 k1
  rw [e_X19_u1 _ _ _ ⟨k0, by rw [h.1.1]; have := h.2.1; omega⟩, h.at k0 k1, sb_and hb.1 hb.2]
theorem c_u2 (h : fB s B g n) (k0 : 0 ≤ k) (k1 : k + 1 < n) : m_X19_u2 s B k = some (r2 g k) := by
  have hn := h.2.1
  rw [em_X19_u2]; unfold dm_X19_u2
  rw [c_u1 h k0 (by omega), Option.bind_some, W32_in (by omega) (by omega), c_u1 h (by omega) k1, Option.bind_some, I_or_r2 (h.by k k0 (by omega)) (h.by (k + 1) (by omega) k1)]; rfl
theorem c_s4 (h : fB s B g n) (k0 : 0 ≤ k) (k1 : k + 3 < n) : m_X19_s4 s B k = some (W32 (r4 g k)) := by
  have hn := h.2.1
  rw [em_X19_s4]; unfold dm_X19_s4
  rw [c_u2 h k0 (by omega), Option.bind_some, W32_in (by omega) (by omega), c_u2 h (by omega) (by omega), Option.bind_some, I_or_r4 (r2_lo h.by k0 (by omega)) (r2_lo h.by (by omega) (by omega))]; rfl
theorem c_u4 (h : fB s B g n) (k0 : 0 ≤ k) (k1 : k + 3 < n) : m_X19_u4 s B k = some (r4 g k) := by
  have hr := r4_lo h.by k0 k1
  have hm := W32_mod (r4 g k)
  rw [em_X19_u4]; unfold dm_X19_u4
  rw [c_s4 h k0 k1, Option.bind_some, L_and_4294967295]; congr 1; omega
/-- what the reader has: a file, room for an exception -/
def rC (s : jS) (R B : Int) (g : Int → Int) (n : Int) : Prop := fB s B g n ∧ (B + 2 ≤ R ∨ R + 619 ≤ B) ∧ (0 ≤ jn s ∧ jBd s 1 6) ∧ jTt s 41 R
def rS (s u : jS) (R B n : Int) : Prop := jFx s u R 619 ∧ jf u 25 R 0 = B ∧ jf u 25 R 1 = n
def cBD (s : jS) (R : Int) (f p : Int) (q : jS × Bool × Int) : Prop := q.2.1 = true ∧ ∃ u, jFx s u R 619 ∧ jf u 25 R 9 = f ∧ jf u 25 R 10 = p ∧ q.1 = jmk u 2054 0 (fun _ => 0) 6 ∧ q.2.2 = jn u
theorem rC.fl (C : rC s R B g n) (h : jFx s u R 619) : fB u B g n := C.1.kf h (by have := C.2.1; omega)
theorem rC.tt (C : rC s R B g n) (h : jFx s u R 619) : jTt u 39 B := C.1.2.2.ext h.2
theorem cBD.end {q : jS × Bool × Int} (h : cBD s R f p q) : jE (some (q.1, true, q.2.2)) (cBD s R f p) := jS_end ⟨rfl, h.2⟩
theorem cBD.inr {S : Type} {q : jS × Bool × Int} (h : cBD s R f p q) : jE (jinr (some (q.1, true, q.2.2)) : Option (S ⊕ (jS × Bool × Int))) fun x => ∃ r, x = .inr r ∧ cBD s R f p r := jS_inr (jS_end ⟨_, rfl, rfl, h.2⟩)
theorem need_ok (h : ¬ x = 0) : m_X21_need u R x f p = some (u, false, 0) := by
  rw [em_X21_need]; unfold dm_X21_need
  rw [if_neg h]
theorem need_no (C : rC s R B g n) (h : jFx s u R 619) : jE (m_X21_need u R 0 f p) (cBD s R f p) := by
  obtain ⟨n0, b1, b2⟩ := C.2.2.1
  obtain ⟨e1, e2, e3, e4, e5, e6, e7⟩ := h.1.1
  rw [em_X21_need]; unfold dm_X21_need
  rw [if_pos rfl]
  simp only [jls]
  have hx : jnx (jp (jp u 25 R 9 f) 25 R 10 p) 2054 = some (jmk (jp (jp u 25 R 9 f) 25 R 10 p) 2054 0 (fun _ => 0) 6, jn u) := by
    unfold jnx; exact if_pos (by show 0 ≤ jn u ∧ jn u + 1 ≤ jlN u ∧ ju u + 6 ≤ jlU u; rw [e3, e4, e5, e6]; exact ⟨n0, b1, b2⟩)
  rw [hx, Option.bind_some, jck0_in (by show 0 ≤ jn u; rw [e3]; exact n0)]
  refine jS_end ⟨rfl, _, (h.jp rfl (by omega) (by omega)).jp rfl (by omega) (by omega), ?_, ?_, rfl, rfl⟩
  · (repeat (first | rw [jf_neg (by omega)] | rw [jf_pos (by omega)] | rw [ou_neg (by omega)] | rw [ou_pos (by omega)]))
  · (repeat (first | rw [jf_neg (by omega)] | rw [jf_pos (by omega)] | rw [ou_neg (by omega)] | rw [ou_pos (by omega)]))
/-- what must be, of two branches; then the rest -/
theorem nd_if {R' : Type} {Q : R' → Prop} {Q' : Int → Int → R' → Prop} {F K : jS × Bool × Int → Option R'} {X Y : Option R'} {d : Prop} [Decidable d] (C : rC s R B g n) (hu : jFx s u R 619) (hX : X = (m_X21_need u R 1 f p).bind fun q => jth q.2.1 (F q) (K q)) (hY : Y = (m_X21_need u R 0 f p).bind fun q => jth q.2.1 (F q) (K q)) (hc : d ↔ c) (fin : ∀ q, cBD s R f p q → jE (F q) (Q' f p)) (ok : c → jE (K (u, false, 0)) (ckR Q Q' L)) : jE (if d then X else Y) (ckR Q Q' ((c, f, p) :: L)) := by
  by_cases h : d
  · rw [if_pos h, hX, need_ok (by decide), Option.bind_some]
    exact jk_ok (hc.mp h) (ok (hc.mp h))
  · rw [if_neg h, hY]
    refine jk_no (fun z => h (hc.mpr z)) (jS_call (need_no C hu) fun q hq => ?_)
    rw [show q.2.1 = true from hq.1]
    exact fin q hq
theorem nd_x {R' : Type} {Q : R' → Prop} {Q' : Int → Int → R' → Prop} {F K : jS × Bool × Int → Option R'} {z : Int} (C : rC s R B g n) (hu : jFx s u R 619) (hz : z = 0 ∨ z = 1) (hc : z = 1 ↔ c) (fin : ∀ q, cBD s R f p q → jE (F q) (Q' f p)) (ok : c → jE (K (u, false, 0)) (ckR Q Q' L)) : jE ((m_X21_need u R z f p).bind fun q => jth q.2.1 (F q) (K q)) (ckR Q Q' ((c, f, p) :: L)) := by
  rcases hz with rfl | rfl
  · refine jk_no (fun z => absurd (hc.mpr z) (by decide)) (jS_call (need_no C hu) fun q hq => ?_)
    rw [show q.2.1 = true from hq.1]
    exact fin q hq
  · rw [need_ok (by decide), Option.bind_some]
    exact jk_ok (hc.mp rfl) (ok (hc.mp rfl))
/-- reads through the reader -/
theorem g_u1 (C : rC s R B g n) (h : rS s u R B n) (k0 : 0 ≤ k) (k1 : k < n) {S : Type} {K : Int → Option S} : (jct u 39 (jf u 25 R 0) (m_X19_u1 u (jf u 25 R 0) k)).bind K = K (g k) := by
  rw [h.2.1, jct_in (C.tt h.1), c_u1 (C.fl h.1) k0 k1, Option.bind_some]
theorem g_u2 (C : rC s R B g n) (h : rS s u R B n) (k0 : 0 ≤ k) (k1 : k + 1 < n) {S : Type} {K : Int → Option S} : (jct u 39 (jf u 25 R 0) (m_X19_u2 u (jf u 25 R 0) k)).bind K = K (r2 g k) := by
  rw [h.2.1, jct_in (C.tt h.1), c_u2 (C.fl h.1) k0 k1, Option.bind_some]
theorem g_u4 (C : rC s R B g n) (h : rS s u R B n) (k0 : 0 ≤ k) (k1 : k + 3 < n) {S : Type} {K : Int → Option S} : (jct u 39 (jf u 25 R 0) (m_X19_u4 u (jf u 25 R 0) k)).bind K = K (r4 g k) := by
  rw [h.2.1, jct_in (C.tt h.1), c_u4 (C.fl h.1) k0 k1, Option.bind_some]
theorem g_s4 (C : rC s R B g n) (h : rS s u R B n) (k0 : 0 ≤ k) (k1 : k + 3 < n) {S : Type} {K : Int → Option S} : (jct u 39 (jf u 25 R 0) (m_X19_s4 u (jf u 25 R 0) k)).bind K = K (W32 (r4 g k)) := by
  rw [h.2.1, jct_in (C.tt h.1), c_s4 (C.fl h.1) k0 k1, Option.bind_some]
theorem rS.jp {k v : Int} (h : rS s u R B n) (e : jSs 25 k = false) (h0 : ¬ k = 0) (h1 : ¬ k = 1) : rS s (jp u 25 R k v) R B n := ⟨h.1.jp e (by omega) (by omega), by rw [jf_neg (by omega)]; exact h.2.1, by rw [jf_neg (by omega)]; exact h.2.2⟩
/-- behind the head -/
def rH (s u : jS) (R B : Int) (g : Int → Int) (n : Int) : Prop := rS s u R B n ∧ jf u 25 R 2 = RT g ∧ jf u 25 R 3 = RE g ∧ jf u 25 R 4 = RN g
def cOK (P : jS → Prop) (q : jS × Bool × Int) : Prop := q.2.1 = false ∧ P q.1
theorem mg_ok (k0 : 0 ≤ k) (k1 : k < 4) : I_and (I_shr 1179403647 (W32 (8 * k))) 255 = mgc k := by
  rw [W32_in (by omega) (by omega), I_and_255, i_shr_p (by omega) (by omega) (by omega)]
  have : k = 0 ∨ k = 1 ∨ k = 2 ∨ k = 3 := by omega
  rcases this with rfl | rfl | rfl | rfl <;> decide
theorem c_head (C : rC s R B g n) (h : rS s u R B n) : jE (m_X21_header u R) (ckR (cOK fun t => rH s t R B g n) (cBD s R) (Lhead g n)) := by
  have hn := C.1.2.1
  unfold Lhead
  rw [em_X21_header]; unfold dm_X21_header
  have e0 : (if jf u 25 R 1 < 52 then u_X21_header_15 u R 0 R else u_X21_header_15 u R 1 R) = if 52 ≤ n then u_X21_header_15 u R 1 R else u_X21_header_15 u R 0 R := by
    rw [h.2.2]
    by_cases c : n < 52
    · rw [if_pos c, if_neg (by omega)]
    · rw [if_neg c, if_pos (by omega)]
  rw [e0]
  refine nd_if C h.1 (by rw [eu_X21_header_15]; unfold du_X21_header_15; rw [h.2.2]) (by rw [eu_X21_header_15]; unfold du_X21_header_15; rw [h.2.2]) Iff.rfl (fun q hq => hq.end) fun c52 => ?_
  dsimp only
  rw [eu_X21_header_25]; unfold du_X21_header_25
  refine jk_for (fun k => [(g k = mgc k, 2, k)]) (fun _ t => t = u) (fun k => [R, k]) 0 4 (by omega) rfl (fun k t k0 k1 _ e => ?_) fun t e _ => ?_
  · subst e
    show jE (b_X21_header_25 t R k) _
    unfold b_X21_header_25
    rw [if_pos k1, g_u1 C h k0 (by omega), mg_ok k0 k1]
    refine nd_if C h.1 (by rw [eu_X21_header_58]; rfl) (by rw [eu_X21_header_58]; rfl) Iff.rfl (fun q hq => hq.inr) fun c1 => jk_end ?_
    dsimp only
    rw [W32_in (by omega) (by omega)]
    exact jS_end ⟨t, rfl, rfl⟩
  subst e
  show jE (b_X21_header_25 t R 4) _
  unfold b_X21_header_25
  rw [if_neg (by omega), eu_X21_header_69]; unfold du_X21_header_69
  rw [eu_X21_header_71]; unfold du_X21_header_71
  refine jS_inr (jE_mono (?_ : jE _ (ckR (cOK fun t => rH s t R B g n) (cBD s R) _)) fun r hr => ⟨r, rfl, hr⟩)
  refine jk_for (fun k => [(g k = 1, k - 1, k)]) (fun _ w => w = t) (fun k => [R, k]) 4 7 (by omega) rfl (fun k w k0 k1 _ e => ?_) fun w e _ => ?_
  · subst e
    show jE (b_X21_header_71 w R k) _
    unfold b_X21_header_71
    rw [if_pos k1, g_u1 C h (by omega) (by omega)]
    refine nd_if C h.1 (by rw [eu_X21_header_95]; unfold du_X21_header_95; rw [W32_in (z := k - 1) (by omega) (by omega)]) (by rw [eu_X21_header_95]; unfold du_X21_header_95; rw [W32_in (z := k - 1) (by omega) (by omega)]) Iff.rfl (fun q hq => hq.inr) fun c1 => jk_end ?_
    dsimp only
    rw [W32_in (by omega) (by omega)]
    exact jS_end ⟨w, rfl, rfl⟩
  subst e
  show jE (b_X21_header_71 w R 7) _
  unfold b_X21_header_71
  rw [if_neg (by omega), eu_X21_header_108]; unfold du_X21_header_108
  rw [eu_X21_header_111]; unfold du_X21_header_111
  refine jS_inr (jE_mono (?_ : jE _ (ckR (cOK fun t => rH s t R B g n) (cBD s R) _)) fun r hr => ⟨r, rfl, hr⟩)
  refine jk_for (fun k => [(g k = 0, 6, k)]) (fun _ t => t = w) (fun k => [R, k]) 7 16 (by omega) rfl (fun k t k0 k1 _ e => ?_) fun t e _ => ?_
  · subst e
    show jE (b_X21_header_111 t R k) _
    unfold b_X21_header_111
    rw [if_pos k1, g_u1 C h (by omega) (by omega)]
    refine nd_if C h.1 (by rw [eu_X21_header_134]; rfl) (by rw [eu_X21_header_134]; rfl) Iff.rfl (fun q hq => hq.inr) fun c1 => jk_end ?_
    dsimp only
    rw [W32_in (by omega) (by omega)]
    exact jS_end ⟨t, rfl, rfl⟩
  subst e
  show jE (b_X21_header_111 t R 16) _
  unfold b_X21_header_111
  rw [if_neg (by omega), eu_X21_header_146]; unfold du_X21_header_146
  refine jS_inr (jE_mono (?_ : jE _ (ckR (cOK fun t => rH s t R B g n) (cBD s R) _)) fun r hr => ⟨r, rfl, hr⟩)
  rw [g_u2 C h (by omega) (by omega)]
  refine nd_if C h.1 (by rw [eu_X21_header_165]; rfl) (by rw [eu_X21_header_165]; rfl) Iff.rfl (fun q hq => hq.end) fun c1 => ?_
  dsimp only
  rw [g_u2 C h (by omega) (by omega)]
  refine nd_if C h.1 (by rw [eu_X21_header_193]; rfl) (by rw [eu_X21_header_193]; rfl) Iff.rfl (fun q hq => hq.end) fun c1 => ?_
  dsimp only
  rw [g_u4 C h (by omega) (by omega)]
  refine nd_if C h.1 (by rw [eu_X21_header_220]; rfl) (by rw [eu_X21_header_220]; rfl) (L_cmp_0 _ _) (fun q hq => hq.end) fun c1 => ?_
  dsimp only
  rw [g_u4 C h (by omega) (by omega)]
  refine nd_if C h.1 (by rw [eu_X21_header_247]; rfl) (by rw [eu_X21_header_247]; rfl) (L_cmp_0 _ _) (fun q hq => hq.end) fun c1 => ?_
  dsimp only
  rw [g_u4 C h (by omega) (by omega)]
  refine nd_if C h.1 (by rw [eu_X21_header_274]; rfl) (by rw [eu_X21_header_274]; rfl) (L_cmp_0 _ _) (fun q hq => hq.end) fun c1 => ?_
  dsimp only
  have h32 := r4_lo C.1.by (p := 32) (by omega) (by omega)
  rw [g_u4 C h (by omega) (by omega), jdv_in (by decide), Option.bind_some, g_u4 C h (by omega) (by omega), L_rem_n (by omega) (by omega) (by omega) (by omega)]
  have e1 : (if L_cmp (r4 g 32 % 4) 0 = 0 then if L_cmp (r4 g 32) 52 < 0 then u_X21_header_320 t R R else u_X21_header_321 t R 1 R else u_X21_header_320 t R R) = if r4 g 32 % 4 = 0 ∧ 52 ≤ r4 g 32 then u_X21_header_321 t R 1 R else u_X21_header_321 t R 0 R := by
    have e2 : u_X21_header_320 t R R = u_X21_header_321 t R 0 R := by rw [eu_X21_header_320]; rfl
    rw [e2]
    simp only [L_cmp_0, L_cmp_lt]
    by_cases c1 : r4 g 32 % 4 = 0
    · rw [if_pos c1]
      by_cases c2 : r4 g 32 < 52
      · rw [if_pos c2, if_neg (by omega)]
      · rw [if_neg c2, if_pos (by omega)]
    · rw [if_neg c1, if_neg (by omega)]
  rw [e1]
  refine nd_if C h.1 (by rw [eu_X21_header_321]; rfl) (by rw [eu_X21_header_321]; rfl) Iff.rfl (fun q hq => hq.end) fun c1 => ?_
  dsimp only
  rw [g_u4 C h (by omega) (by omega)]
  refine nd_if C h.1 (by rw [eu_X21_header_350]; rfl) (by rw [eu_X21_header_350]; rfl) (L_cmp_lt _ _) (fun q hq => hq.end) fun c1 => ?_
  dsimp only
  rw [g_u2 C h (by omega) (by omega)]
  refine nd_if C h.1 (by rw [eu_X21_header_377]; rfl) (by rw [eu_X21_header_377]; rfl) Iff.rfl (fun q hq => hq.end) fun c1 => ?_
  dsimp only
  rw [g_u2 C h (by omega) (by omega)]
  refine nd_if C h.1 (by rw [eu_X21_header_402]; rfl) (by rw [eu_X21_header_402]; rfl) Iff.rfl (fun q hq => hq.end) fun c1 => ?_
  dsimp only
  rw [g_u2 C h (by omega) (by omega)]
  refine nd_if C h.1 (by rw [eu_X21_header_427]; rfl) (by rw [eu_X21_header_427]; rfl) Iff.rfl (fun q hq => hq.end) fun c1 => ?_
  dsimp only
  rw [g_u2 C h (by omega) (by omega)]
  refine nd_if C h.1 (by rw [eu_X21_header_454]; rfl) (by rw [eu_X21_header_454]; rfl) Iff.rfl (fun q hq => hq.end) fun c1 => ?_
  dsimp only
  rw [g_u2 C h (by omega) (by omega)]
  simp only [jls]
  have h48 := r2_lo C.1.by (p := 48) (by omega) (by omega)
  have h50 := r2_lo C.1.by (p := 50) (by omega) (by omega)
  have s1 : rS s (jp t 25 R 3 (r2 g 48)) R B n := h.jp rfl (by omega) (by omega)
  rw [jf_pos ⟨rfl, rfl, rfl⟩, e_X13_in, Option.bind_some]
  refine nd_x C s1.1 (by split <;> omega) (by
    by_cases c : ¬ r2 g 48 < 1 ∧ ¬ 16 < r2 g 48
    · rw [if_pos c]; omega
    · rw [if_neg c]; omega) (fun q hq => hq.end) fun c2 => ?_
  dsimp only
  have f3 : jf (jp t 25 R 3 (r2 g 48)) 25 R 3 = r2 g 48 := by (repeat (first | rw [jf_neg (by omega)] | rw [jf_pos (by omega)] | rw [ou_neg (by omega)] | rw [ou_pos (by omega)]))
  generalize jp t 25 R 3 (r2 g 48) = t1 at s1 f3 ⊢
  rw [g_u2 C s1 (by omega) (by omega)]
  have s2 : rS s (jp t1 25 R 4 (r2 g 50)) R B n := s1.jp rfl (by omega) (by omega)
  rw [jf_pos ⟨rfl, rfl, rfl⟩, jf_neg (by omega), f3, W32_in (by omega) (by omega), e_X13_in, Option.bind_some]
  refine nd_x C s2.1 (by split <;> omega) (by
    by_cases c : ¬ r2 g 50 < 1 ∧ ¬ r2 g 48 - 1 < r2 g 50
    · rw [if_pos c]; omega
    · rw [if_neg c]; omega) (fun q hq => hq.end) fun c3 => ?_
  dsimp only
  have f3' : jf (jp t1 25 R 4 (r2 g 50)) 25 R 3 = r2 g 48 := by (repeat (first | rw [jf_neg (by omega)] | rw [jf_pos (by omega)] | rw [ou_neg (by omega)] | rw [ou_pos (by omega)])); exact f3
  have f4 : jf (jp t1 25 R 4 (r2 g 50)) 25 R 4 = r2 g 50 := by (repeat (first | rw [jf_neg (by omega)] | rw [jf_pos (by omega)] | rw [ou_neg (by omega)] | rw [ou_pos (by omega)]))
  generalize jp t1 25 R 4 (r2 g 50) = t2 at s2 f3' f4 ⊢
  rw [g_u4 C s2 (by omega) (by omega), f3', s2.2.2, W64_in (z := 40 * r2 g 48) (by omega) (by omega), W64_in (by omega) (by omega)]
  have e3 : (if 0 < L_cmp (r4 g 32 + 40 * r2 g 48) n then u_X21_header_561 t2 R 0 R else u_X21_header_561 t2 R 1 R) = if r4 g 32 + 40 * r2 g 48 ≤ n then u_X21_header_561 t2 R 1 R else u_X21_header_561 t2 R 0 R := by
    simp only [L_cmp_gt]
    by_cases c : n < r4 g 32 + 40 * r2 g 48
    · rw [if_pos c, if_neg (by omega)]
    · rw [if_neg c, if_pos (by omega)]
  rw [e3]
  refine nd_if C s2.1 (by rw [eu_X21_header_561]; rfl) (by rw [eu_X21_header_561]; rfl) Iff.rfl (fun q hq => hq.end) fun c4 => jk_end ?_
  dsimp only
  rw [g_s4 C s2 (by omega) (by omega), W32_in (by omega) (by omega)]
  simp only [jls]
  exact jS_end ⟨rfl, s2.jp rfl (by omega) (by omega), by (repeat (first | rw [jf_neg (by omega)] | rw [jf_pos (by omega)] | rw [ou_neg (by omega)] | rw [ou_pos (by omega)])); rfl, by (repeat (first | rw [jf_neg (by omega)] | rw [jf_pos (by omega)] | rw [ou_neg (by omega)] | rw [ou_pos (by omega)])); exact f3', by (repeat (first | rw [jf_neg (by omega)] | rw [jf_pos (by omega)] | rw [ou_neg (by omega)] | rw [ou_pos (by omega)])); exact f4⟩
end jCread
