/-! the component reads a file of an image: numbers, what must be, the head -/
section jIread
variable {s t u : jS} {B N R n p f a b x y e k z : Int} {g g' : Int → Int} {i : Int → Int → Int → Int} {L : List (Prop × Int × Int)} {c : Prop}
/-- a file of an image: its bytes, how many -/
def iB (s : jS) (B : Int) (g : Int → Int) (n : Int) : Prop := (jf s 29 B 1 = n ∧ 0 ≤ n ∧ byG g n ∧ ∀ k, 0 ≤ k → k < n → jf s 1001 (B + 1) k = sb (g k)) ∧ n ≤ 16384 ∧ jTt s 45 B
theorem iB.by (h : iB s B g n) : byG g n := h.1.2.2.1
theorem iB.n0 (h : iB s B g n) : 0 ≤ n := h.1.2.1
theorem iB.at (h : iB s B g n) (k0 : 0 ≤ k) (k1 : k < n) : jf s 1001 (B + 1) k = sb (g k) := h.1.2.2.2 k k0 k1
theorem iB.kf {lo m : Int} (h : iB s B g n) (k : jFx s t lo m) (d : B + 2 ≤ lo ∨ lo + m ≤ B) : iB t B g n := ⟨⟨by rw [k.F (by omega)]; exact h.1.1, h.1.2.1, h.1.2.2.1, fun j j0 j1 => by rw [k.F (by omega)]; exact h.1.2.2.2 j j0 j1⟩, h.2.1, h.2.2.ext k.2⟩
theorem i_u1 (h : iB s B g n) (k0 : 0 ≤ k) (k1 : k < n) : m_X25_u1 s B k = some (g k) := by
  have hb := h.by k k0 k1
  rw [e_X25_u1 _ _ _ ⟨k0, by have := h.2.1; omega⟩, h.at k0 k1, sb_and hb.1 hb.2]
theorem i_u2 (h : iB s B g n) (k0 : 0 ≤ k) (k1 : k + 1 < n) : m_X25_u2 s B k = some (r2 g k) := by
  have hn := h.2.1
  rw [em_X25_u2]; unfold dm_X25_u2
  rw [i_u1 h k0 (by omega), Option.bind_some, W32_in (by omega) (by omega), i_u1 h (by omega) k1, Option.bind_some, I_or_r2 (h.by k k0 (by omega)) (h.by (k + 1) (by omega) k1)]; rfl
theorem i_s4 (h : iB s B g n) (k0 : 0 ≤ k) (k1 : k + 3 < n) : m_X25_s4 s B k = some (W32 (r4 g k)) := by
  have hn := h.2.1
  rw [em_X25_s4]; unfold dm_X25_s4
  rw [i_u2 h k0 (by omega), Option.bind_some, W32_in (by omega) (by omega), i_u2 h (by omega) (by omega), Option.bind_some, I_or_r4 (r2_lo h.by k0 (by omega)) (r2_lo h.by (by omega) (by omega))]; rfl
theorem i_u4 (h : iB s B g n) (k0 : 0 ≤ k) (k1 : k + 3 < n) : m_X25_u4 s B k = some (r4 g k) := by
  have hr := r4_lo h.by k0 k1
  have hm := W32_mod (r4 g k)
  rw [em_X25_u4]; unfold dm_X25_u4
  rw [i_s4 h k0 k1, Option.bind_some, L_and_4294967295]; congr 1; omega
def vsg (b x : Int) : Int := (b + 1) + 2 + 2 * x
/-- raw sizes are in bounds, there or not -/
def cIz (s : jS) (b : Int) : Prop := ∀ x, 0 ≤ x → x < 3 → 0 ≤ jf s 28 (vsg b x) 4 ∧ jf s 28 (vsg b x) 4 ≤ 4096
/-- what the reader has: a file, room for an exception -/
def iC (s : jS) (R B : Int) (g : Int → Int) (n : Int) : Prop := iB s B g n ∧ (B + 2 ≤ R ∨ R + 12 ≤ B) ∧ (0 ≤ jn s ∧ jBd s 1 6) ∧ jTt s 48 R
def iS (s u : jS) (R B n : Int) : Prop := jFx s u R 12 ∧ jf u 32 R 3 = B ∧ jf u 32 R 4 = n
def iBD (s : jS) (R : Int) (f p : Int) (q : jS × Bool × Int) : Prop := q.2.1 = true ∧ ∃ u, jFx s u R 12 ∧ jf u 32 R 8 = f ∧ jf u 32 R 9 = p ∧ q.1 = jmk u 2054 0 (fun _ => 0) 6 ∧ q.2.2 = jn u ∧ cIz u (R + 1)
theorem iC.fl (C : iC s R B g n) (h : jFx s u R 12) : iB u B g n := C.1.kf h (by have := C.2.1; omega)
theorem iC.tt (C : iC s R B g n) (h : jFx s u R 12) : jTt u 45 B := C.1.2.2.ext h.2
theorem iBD.end {q : jS × Bool × Int} (h : iBD s R f p q) : jE (some (q.1, true, q.2.2)) (iBD s R f p) := jS_end ⟨rfl, h.2⟩
theorem iBD.inr {S : Type} {q : jS × Bool × Int} (h : iBD s R f p q) : jE (jinr (some (q.1, true, q.2.2)) : Option (S ⊕ (jS × Bool × Int))) fun x => ∃ r, x = .inr r ∧ iBD s R f p r := jS_inr (jS_end ⟨_, rfl, rfl, h.2⟩)
theorem nee_ok (h : ¬ x = 0) : m_X28_need u R x f p = some (u, false, 0) := by
  rw [em_X28_need]; unfold dm_X28_need
  rw [if_neg h]
theorem nee_no (C : iC s R B g n) (h : jFx s u R 12) (hZ : cIz u (R + 1) := by first | assumption | exact And.right (And.right (And.right (And.right (by assumption)))) | exact And.right (And.right (by assumption))) : jE (m_X28_need u R 0 f p) (iBD s R f p) := by
  obtain ⟨n0, b1, b2⟩ := C.2.2.1
  obtain ⟨e1, e2, e3, e4, e5, e6, e7⟩ := h.1.1
  rw [em_X28_need]; unfold dm_X28_need
  rw [if_pos rfl]
  simp only [jls]
  have hx : jnx (jp (jp u 32 R 8 f) 32 R 9 p) 2054 = some (jmk (jp (jp u 32 R 8 f) 32 R 9 p) 2054 0 (fun _ => 0) 6, jn u) := by
    unfold jnx; exact if_pos (by show 0 ≤ jn u ∧ jn u + 1 ≤ jlN u ∧ ju u + 6 ≤ jlU u; rw [e3, e4, e5, e6]; exact ⟨n0, b1, b2⟩)
  rw [hx, Option.bind_some, jck0_in (by show 0 ≤ jn u; rw [e3]; exact n0)]
  refine jS_end ⟨rfl, _, (h.jp rfl (by omega) (by omega)).jp rfl (by omega) (by omega), ?_, ?_, rfl, rfl, fun x x0 x1 => ?_⟩
  · (repeat (first | rw [jf_neg (by omega)] | rw [jf_pos (by omega)] | rw [ou_neg (by omega)] | rw [ou_pos (by omega)]))
  · (repeat (first | rw [jf_neg (by omega)] | rw [jf_pos (by omega)] | rw [ou_neg (by omega)] | rw [ou_pos (by omega)]))
  · unfold vsg; (repeat (first | rw [jf_neg (by omega)] | rw [jf_pos (by omega)] | rw [ou_neg (by omega)] | rw [ou_pos (by omega)])); exact hZ x x0 x1
/-- what must be, of two branches; then the rest -/
theorem ni_if {R' : Type} {Q : R' → Prop} {Q' : Int → Int → R' → Prop} {F K : jS × Bool × Int → Option R'} {X Y : Option R'} {d : Prop} [Decidable d] (C : iC s R B g n) (hu : jFx s u R 12) (hX : X = (m_X28_need u R 1 f p).bind fun q => jth q.2.1 (F q) (K q)) (hY : Y = (m_X28_need u R 0 f p).bind fun q => jth q.2.1 (F q) (K q)) (hc : d ↔ c) (fin : ∀ q, iBD s R f p q → jE (F q) (Q' f p)) (ok : c → jE (K (u, false, 0)) (ckR Q Q' L)) (hZ : cIz u (R + 1) := by first | assumption | exact And.right (And.right (And.right (And.right (by assumption)))) | exact And.right (And.right (by assumption))) : jE (if d then X else Y) (ckR Q Q' ((c, f, p) :: L)) := by
  by_cases h : d
  · rw [if_pos h, hX, nee_ok (by decide), Option.bind_some]
    exact jk_ok (hc.mp h) (ok (hc.mp h))
  · rw [if_neg h, hY]
    refine jk_no (fun z => h (hc.mpr z)) (jS_call (nee_no C hu hZ) fun q hq => ?_)
    rw [show q.2.1 = true from hq.1]
    exact fin q hq
theorem ni_x {R' : Type} {Q : R' → Prop} {Q' : Int → Int → R' → Prop} {F K : jS × Bool × Int → Option R'} {z : Int} (C : iC s R B g n) (hu : jFx s u R 12) (hz : z = 0 ∨ z = 1) (hc : z = 1 ↔ c) (fin : ∀ q, iBD s R f p q → jE (F q) (Q' f p)) (ok : c → jE (K (u, false, 0)) (ckR Q Q' L)) (hZ : cIz u (R + 1) := by first | assumption | exact And.right (And.right (And.right (And.right (by assumption)))) | exact And.right (And.right (by assumption))) : jE ((m_X28_need u R z f p).bind fun q => jth q.2.1 (F q) (K q)) (ckR Q Q' ((c, f, p) :: L)) := by
  rcases hz with rfl | rfl
  · refine jk_no (fun z => absurd (hc.mpr z) (by decide)) (jS_call (nee_no C hu hZ) fun q hq => ?_)
    rw [show q.2.1 = true from hq.1]
    exact fin q hq
  · rw [nee_ok (by decide), Option.bind_some]
    exact jk_ok (hc.mp rfl) (ok (hc.mp rfl))
/-- reads through the reader -/
theorem h_u1 (C : iC s R B g n) (h : iS s u R B n) (k0 : 0 ≤ k) (k1 : k < n) {S : Type} {K : Int → Option S} : (jct u 45 (jf u 32 R 3) (m_X25_u1 u (jf u 32 R 3) k)).bind K = K (g k) := by
  rw [h.2.1, jct_in (C.tt h.1), i_u1 (C.fl h.1) k0 k1, Option.bind_some]
theorem h_u2 (C : iC s R B g n) (h : iS s u R B n) (k0 : 0 ≤ k) (k1 : k + 1 < n) {S : Type} {K : Int → Option S} : (jct u 45 (jf u 32 R 3) (m_X25_u2 u (jf u 32 R 3) k)).bind K = K (r2 g k) := by
  rw [h.2.1, jct_in (C.tt h.1), i_u2 (C.fl h.1) k0 k1, Option.bind_some]
theorem h_u4 (C : iC s R B g n) (h : iS s u R B n) (k0 : 0 ≤ k) (k1 : k + 3 < n) {S : Type} {K : Int → Option S} : (jct u 45 (jf u 32 R 3) (m_X25_u4 u (jf u 32 R 3) k)).bind K = K (r4 g k) := by
  rw [h.2.1, jct_in (C.tt h.1), i_u4 (C.fl h.1) k0 k1, Option.bind_some]
theorem h_s4 (C : iC s R B g n) (h : iS s u R B n) (k0 : 0 ≤ k) (k1 : k + 3 < n) {S : Type} {K : Int → Option S} : (jct u 45 (jf u 32 R 3) (m_X25_s4 u (jf u 32 R 3) k)).bind K = K (W32 (r4 g k)) := by
  rw [h.2.1, jct_in (C.tt h.1), i_s4 (C.fl h.1) k0 k1, Option.bind_some]
theorem iS.jp {k v : Int} (h : iS s u R B n) (e : jSs 32 k = false) (h0 : ¬ k = 3) (h1 : ¬ k = 4) : iS s (jp u 32 R k v) R B n := ⟨h.1.jp e (by omega) (by omega), by rw [jf_neg (by omega)]; exact h.2.1, by rw [jf_neg (by omega)]; exact h.2.2⟩
/-- behind the head -/
def iH (s u : jS) (R B : Int) (g : Int → Int) (n : Int) : Prop := iS s u R B n ∧ jf u 32 R 5 = JT g ∧ jf u 32 R 6 = JE g
/-- the rows found so far -/
def iW (u : jS) (R : Int) (g : Int → Int) (e : Int) : Prop := (∀ x, 0 ≤ x → x < 3 → jf u 1000 (R + 11) x = rwI g x e) ∧ jf u 32 R 7 = rwI g 3 e
theorem iW.jp {v : Int} (h : iW u R g e) (h7 : ¬ k = 7) : iW (jp u 32 R k v) R g e := ⟨fun x x0 x1 => by (repeat (first | rw [jf_neg (by omega)] | rw [jf_pos (by omega)] | rw [ou_neg (by omega)] | rw [ou_pos (by omega)])); exact h.1 x x0 x1, by (repeat (first | rw [jf_neg (by omega)] | rw [jf_pos (by omega)] | rw [ou_neg (by omega)] | rw [ou_pos (by omega)])); exact h.2⟩
theorem i_head (C : iC s R B g n) (h : iS s u R B n) (hw : iW u R g 0) (hz : cIz u (R + 1)) : jE (m_X28_header u R) (ckR (cOK fun t => iH s t R B g n ∧ iW t R g 0 ∧ cIz t (R + 1)) (iBD s R) (JHead g n)) := by
  have hn := C.1.2.1
  unfold JHead
  rw [em_X28_header]; unfold dm_X28_header
  have e0 : (if jf u 32 R 4 < 52 then u_X28_header_15 u R 0 R else u_X28_header_15 u R 1 R) = if 52 ≤ n then u_X28_header_15 u R 1 R else u_X28_header_15 u R 0 R := by
    rw [h.2.2]
    by_cases c : n < 52
    · rw [if_pos c, if_neg (by omega)]
    · rw [if_neg c, if_pos (by omega)]
  rw [e0]
  refine ni_if C h.1 (by rw [eu_X28_header_15]; unfold du_X28_header_15; rw [h.2.2]) (by rw [eu_X28_header_15]; unfold du_X28_header_15; rw [h.2.2]) Iff.rfl (fun q hq => hq.end) fun c52 => ?_
  dsimp only
  rw [eu_X28_header_25]; unfold du_X28_header_25
  refine jk_for (fun k => [(g k = mgc k, 2, k)]) (fun _ t => t = u) (fun k => [R, k]) 0 4 (by omega) rfl (fun k t k0 k1 _ e => ?_) fun t e _ => ?_
  · subst e
    show jE (b_X28_header_25 t R k) _
    unfold b_X28_header_25
    rw [if_pos k1, h_u1 C h k0 (by omega), mg_ok k0 k1]
    refine ni_if C h.1 (by rw [eu_X28_header_58]; rfl) (by rw [eu_X28_header_58]; rfl) Iff.rfl (fun q hq => hq.inr) fun c1 => jk_end ?_
    dsimp only
    rw [W32_in (by omega) (by omega)]
    exact jS_end ⟨t, rfl, rfl⟩
  subst e
  show jE (b_X28_header_25 t R 4) _
  unfold b_X28_header_25
  rw [if_neg (by omega), eu_X28_header_69]; unfold du_X28_header_69
  rw [eu_X28_header_71]; unfold du_X28_header_71
  refine jS_inr (jE_mono (?_ : jE _ (ckR (cOK fun t => iH s t R B g n ∧ iW t R g 0 ∧ cIz t (R + 1)) (iBD s R) _)) fun r hr => ⟨r, rfl, hr⟩)
  refine jk_for (fun k => [(g k = 1, k - 1, k)]) (fun _ w => w = t) (fun k => [R, k]) 4 7 (by omega) rfl (fun k w k0 k1 _ e => ?_) fun w e _ => ?_
  · subst e
    show jE (b_X28_header_71 w R k) _
    unfold b_X28_header_71
    rw [if_pos k1, h_u1 C h (by omega) (by omega)]
    refine ni_if C h.1 (by rw [eu_X28_header_95]; unfold du_X28_header_95; rw [W32_in (z := k - 1) (by omega) (by omega)]) (by rw [eu_X28_header_95]; unfold du_X28_header_95; rw [W32_in (z := k - 1) (by omega) (by omega)]) Iff.rfl (fun q hq => hq.inr) fun c1 => jk_end ?_
    dsimp only
    rw [W32_in (by omega) (by omega)]
    exact jS_end ⟨w, rfl, rfl⟩
  subst e
  show jE (b_X28_header_71 w R 7) _
  unfold b_X28_header_71
  rw [if_neg (by omega), eu_X28_header_108]; unfold du_X28_header_108
  rw [eu_X28_header_111]; unfold du_X28_header_111
  refine jS_inr (jE_mono (?_ : jE _ (ckR (cOK fun t => iH s t R B g n ∧ iW t R g 0 ∧ cIz t (R + 1)) (iBD s R) _)) fun r hr => ⟨r, rfl, hr⟩)
  refine jk_for (fun k => [(g k = 0, 6, k)]) (fun _ t => t = w) (fun k => [R, k]) 7 16 (by omega) rfl (fun k t k0 k1 _ e => ?_) fun t e _ => ?_
  · subst e
    show jE (b_X28_header_111 t R k) _
    unfold b_X28_header_111
    rw [if_pos k1, h_u1 C h (by omega) (by omega)]
    refine ni_if C h.1 (by rw [eu_X28_header_134]; rfl) (by rw [eu_X28_header_134]; rfl) Iff.rfl (fun q hq => hq.inr) fun c1 => jk_end ?_
    dsimp only
    rw [W32_in (by omega) (by omega)]
    exact jS_end ⟨t, rfl, rfl⟩
  subst e
  show jE (b_X28_header_111 t R 16) _
  unfold b_X28_header_111
  rw [if_neg (by omega), eu_X28_header_146]; unfold du_X28_header_146
  refine jS_inr (jE_mono (?_ : jE _ (ckR (cOK fun t => iH s t R B g n ∧ iW t R g 0 ∧ cIz t (R + 1)) (iBD s R) _)) fun r hr => ⟨r, rfl, hr⟩)
  rw [h_u2 C h (by omega) (by omega)]
  refine ni_if C h.1 (by rw [eu_X28_header_165]; rfl) (by rw [eu_X28_header_165]; rfl) Iff.rfl (fun q hq => hq.end) fun c1 => ?_
  dsimp only
  rw [h_u2 C h (by omega) (by omega)]
  refine ni_if C h.1 (by rw [eu_X28_header_193]; rfl) (by rw [eu_X28_header_193]; rfl) Iff.rfl (fun q hq => hq.end) fun c1 => ?_
  dsimp only
  rw [h_u4 C h (by omega) (by omega)]
  refine ni_if C h.1 (by rw [eu_X28_header_220]; rfl) (by rw [eu_X28_header_220]; rfl) (L_cmp_0 _ _) (fun q hq => hq.end) fun c1 => ?_
  dsimp only
  have h28 := r4_lo C.1.by (p := 28) (by omega) (by omega)
  rw [h_u4 C h (by omega) (by omega), jdv_in (by decide), Option.bind_some, h_u4 C h (by omega) (by omega), L_rem_n (by omega) (by omega) (by omega) (by omega)]
  have e1 : (if L_cmp (r4 g 28 % 4) 0 = 0 then if L_cmp (r4 g 28) 52 < 0 then u_X28_header_266 t R R else u_X28_header_267 t R 1 R else u_X28_header_266 t R R) = if r4 g 28 % 4 = 0 ∧ 52 ≤ r4 g 28 then u_X28_header_267 t R 1 R else u_X28_header_267 t R 0 R := by
    have e2 : u_X28_header_266 t R R = u_X28_header_267 t R 0 R := by rw [eu_X28_header_266]; rfl
    rw [e2]
    simp only [L_cmp_0, L_cmp_lt]
    by_cases c1 : r4 g 28 % 4 = 0
    · rw [if_pos c1]
      by_cases c2 : r4 g 28 < 52
      · rw [if_pos c2, if_neg (by omega)]
      · rw [if_neg c2, if_pos (by omega)]
    · rw [if_neg c1, if_neg (by omega)]
  rw [e1]
  refine ni_if C h.1 (by rw [eu_X28_header_267]; rfl) (by rw [eu_X28_header_267]; rfl) Iff.rfl (fun q hq => hq.end) fun c28 => ?_
  dsimp only
  rw [h_u4 C h (by omega) (by omega)]
  refine ni_if C h.1 (by rw [eu_X28_header_294]; rfl) (by rw [eu_X28_header_294]; rfl) (L_cmp_0 _ _) (fun q hq => hq.end) fun c1 => ?_
  dsimp only
  rw [h_u4 C h (by omega) (by omega)]
  refine ni_if C h.1 (by rw [eu_X28_header_323]; rfl) (by rw [eu_X28_header_323]; rfl) (L_cmp_lt _ _) (fun q hq => hq.end) fun c1 => ?_
  dsimp only
  rw [h_u2 C h (by omega) (by omega)]
  refine ni_if C h.1 (by rw [eu_X28_header_350]; rfl) (by rw [eu_X28_header_350]; rfl) Iff.rfl (fun q hq => hq.end) fun c1 => ?_
  dsimp only
  rw [h_u2 C h (by omega) (by omega)]
  refine ni_if C h.1 (by rw [eu_X28_header_377]; rfl) (by rw [eu_X28_header_377]; rfl) Iff.rfl (fun q hq => hq.end) fun c1 => ?_
  dsimp only
  rw [h_u2 C h (by omega) (by omega)]
  simp only [jls]
  have h2 : iS s (jp t 32 R 6 (r2 g 44)) R B n := h.jp rfl (by omega) (by omega)
  have v44 := r2_lo C.1.by (p := 44) (by omega) (by omega)
  rw [jf_pos ⟨rfl, rfl, rfl⟩, e_X22_in, Option.bind_some]
  refine ni_x C h2.1 (by split <;> omega) (by split <;> omega) (fun q hq => hq.end) fun c44 => ?_
  dsimp only
  have hw2 : iW (jp t 32 R 6 (r2 g 44)) R g 0 := hw.jp (by omega)
  have hz2 : cIz (jp t 32 R 6 (r2 g 44)) (R + 1) := fun x x0 x1 => by (repeat (first | rw [jf_neg (by omega)] | rw [jf_pos (by omega)] | rw [ou_neg (by omega)] | rw [ou_pos (by omega)])); exact hz x x0 x1
  have e6 : jf (jp t 32 R 6 (r2 g 44)) 32 R 6 = r2 g 44 := jf_pos ⟨rfl, rfl, rfl⟩
  generalize jp t 32 R 6 (r2 g 44) = t2 at h2 hw2 hz2 e6 ⊢
  rw [eu_X28_header_420]; unfold du_X28_header_420
  show jE _ (ckR _ _ (ckF (fun k => [(r2 g (46 + 2 * k) = 0, 9, 46 + 2 * k)]) 0 3 ++ [(r4 g 28 + 32 * r2 g 44 ≤ n, 10, 28)]))
  refine jk_for (fun k => [(r2 g (46 + 2 * k) = 0, 9, 46 + 2 * k)]) (fun _ w => w = t2) (fun k => [R, 46 + 2 * k]) 0 3 (by omega) rfl (fun k w k0 k1 _ e => ?_) fun w e _ => ?_
  · subst e
    show jE (b_X28_header_420 w R (46 + 2 * k)) _
    unfold b_X28_header_420
    rw [if_pos (by omega), h_u2 C h2 (by omega) (by omega)]
    refine ni_if C h2.1 (by rw [eu_X28_header_443]; rfl) (by rw [eu_X28_header_443]; rfl) Iff.rfl (fun q hq => hq.inr) fun c1 => jk_end ?_
    dsimp only
    rw [W32_in (by omega) (by omega), show 46 + 2 * k + 2 = 46 + 2 * (k + 1) by omega]
    exact jS_end ⟨w, rfl, rfl⟩
  subst e
  show jE (b_X28_header_420 w R 52) _
  unfold b_X28_header_420
  rw [if_neg (by omega), eu_X28_header_455]; unfold du_X28_header_455
  refine jS_inr (jE_mono (?_ : jE _ (ckR (cOK fun t => iH s t R B g n ∧ iW t R g 0 ∧ cIz t (R + 1)) (iBD s R) _)) fun r hr => ⟨r, rfl, hr⟩)
  rw [h_u4 C h2 (by omega) (by omega), e6, h2.2.2, W64_in (z := 32 * r2 g 44) (by omega) (by omega), W64_in (by omega) (by omega)]
  have e7 : (if 0 < L_cmp (r4 g 28 + 32 * r2 g 44) n then u_X28_header_489 w R 0 R else u_X28_header_489 w R 1 R) = if r4 g 28 + 32 * r2 g 44 ≤ n then u_X28_header_489 w R 1 R else u_X28_header_489 w R 0 R := by
    simp only [L_cmp_gt]
    by_cases c : n < r4 g 28 + 32 * r2 g 44
    · rw [if_pos c, if_neg (by omega)]
    · rw [if_neg c, if_pos (by omega)]
  rw [e7]
  refine ni_if C h2.1 (by rw [eu_X28_header_489]; rfl) (by rw [eu_X28_header_489]; rfl) Iff.rfl (fun q hq => hq.end) fun c7 => jk_end ?_
  dsimp only
  rw [h_s4 C h2 (by omega) (by omega), W32_in (by omega) (by omega)]
  exact jS_end ⟨rfl, ⟨h2.jp rfl (by omega) (by omega), by (repeat (first | rw [jf_neg (by omega)] | rw [jf_pos (by omega)] | rw [ou_neg (by omega)] | rw [ou_pos (by omega)])); rfl, by (repeat (first | rw [jf_neg (by omega)] | rw [jf_pos (by omega)] | rw [ou_neg (by omega)] | rw [ou_pos (by omega)])); exact e6⟩, hw2.jp (by omega), fun x x0 x1 => by (repeat (first | rw [jf_neg (by omega)] | rw [jf_pos (by omega)] | rw [ou_neg (by omega)] | rw [ou_pos (by omega)])); exact hz2 x x0 x1⟩
/-- numbers of rows -/
theorem jt_in (hd : Jd g n) (hn : n ≤ 16384) (e0 : 0 ≤ e) (e1 : e < JE g) (k0 : 0 ≤ k) (k1 : k < 8) : 52 ≤ jt' g e k ∧ jt' g e k + 3 < n := by
  obtain ⟨d1, d2, d3, d4, d5, d6⟩ := hd
  unfold jt'; omega
theorem it_lo (hb : byG g n) (hd : Jd g n) (hn : n ≤ 16384) (e0 : 0 ≤ e) (e1 : e < JE g) (k0 : 0 ≤ k) (k1 : k < 8) : 0 ≤ it g e k ∧ it g e k < 4294967296 := by
  have := jt_in hd hn e0 e1 k0 k1
  exact r4_lo hb (by omega) this.2
theorem i_field (h : iH s u R B g n) (hd : Jd g n) (hn : n ≤ 16384) (e0 : 0 ≤ e) (e1 : e < JE g) (k0 : 0 ≤ k) (k1 : k < 8) : m_X28_field u R e k = some (jt' g e k) := by
  obtain ⟨d1, d2, d3, d4, d5, d6⟩ := hd
  rw [e_X28_field, h.2.1, W32_in (z := 32 * e) (by omega) (by omega), W32_in (z := 4 * k) (by omega) (by omega), W32_in (z := JT g + 32 * e) (by omega) (by omega), W32_in (by omega) (by omega)]; rfl
theorem i_num (C : iC s R B g n) (h : iH s u R B g n) (hd : Jd g n) (e0 : 0 ≤ e) (e1 : e < JE g) (k0 : 0 ≤ k) (k1 : k < 8) : m_X28_number u R e k = some (it g e k) := by
  have hr := jt_in hd C.1.2.1 e0 e1 k0 k1
  rw [em_X28_number]; unfold dm_X28_number
  rw [i_field h hd C.1.2.1 e0 e1 k0 k1, Option.bind_some, h_u4 C h.1 (by omega) hr.2]; rfl
theorem i_val (C : iC s R B g n) (h : iH s u R B g n) (hd : Jd g n) (e0 : 0 ≤ e) (e1 : e < JE g) (k0 : 0 ≤ k) (k1 : k < 8) : m_X28_value u R e k = some (W32 (it g e k)) := by
  have hr := jt_in hd C.1.2.1 e0 e1 k0 k1
  rw [em_X28_value]; unfold dm_X28_value
  rw [i_field h hd C.1.2.1 e0 e1 k0 k1, Option.bind_some, h_s4 C h.1 (by omega) hr.2]; rfl
end jIread
