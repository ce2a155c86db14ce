/-! the component's image: what it is; clear, a segment laid, bytes added -/
section jIimg
variable {s t u w : jS} {B N R n p f a b x y e k z v d lo m : Int} {g g' : Int → Int} {i j : Int → Int → Int → Int} {L : List (Prop × Int × Int)} {c : Prop}
theorem T44 (h : jTt s 44 v) : (0 ≤ v ∧ jK s v = 28) ∧ jf s 28 v 1 = v + 1 ∧ 0 ≤ v + 1 ∧ jK s (v + 1) = 1001 ∧ jN s (v + 1) = 4096 := by
  have k := h.zz.2.2.1
  have f := h.fld (k := 1) (o := 1) (t' := 2101249) (by decide)
  exact ⟨⟨h.zz.1, k⟩, by rw [← jF_k (show jK s v = 28 from k)]; exact f.1, f.2.zz.1, f.2.zz.2.2.1, f.2.zz.2.2.2 (by decide) (by decide)⟩
theorem T43 (h : jTt s 43 b) : (0 ≤ b ∧ jK s b = 27) ∧ (jf s 27 b 0 = b + 1 ∧ 0 ≤ b + 1 ∧ jK s (b + 1) = 1009 ∧ jN s (b + 1) = 3 ∧ ∀ x, 0 ≤ x → x < 3 → jf s 1009 (b + 1) x = vsg b x ∧ jTt s 44 (vsg b x)) ∧ jf s 27 b 1 = b + 2 ∧ 0 ≤ b + 2 ∧ jK s (b + 2) = 1002 ∧ jN s (b + 2) = 2048 := by
  have k := h.zz.2.2.1
  have f0 := h.fld (k := 0) (o := 1) (t' := 10485764) (by decide)
  have f1 := h.fld (k := 1) (o := 2) (t' := 3147777) (by decide)
  have hk : jK s b = 27 := k
  have K0 : jK s (b + 1) = 1009 := f0.2.zz.2.2.1
  rw [jF_k hk] at f0 f1
  refine ⟨⟨h.zz.1, hk⟩, ⟨f0.1, f0.2.zz.1, K0, f0.2.zz.2.2.2 (by decide) (by decide), fun x x0 x1 => ?_⟩, f1.1, f1.2.zz.1, f1.2.zz.2.2.1, f1.2.zz.2.2.2 (by decide) (by decide)⟩
  rw [← jF_k K0]; exact f0.2.elt (show jStA 10485764 = some (2, 2, 44) by decide) x0 x1
/-- 0: bytes; 1: there, start, size, blank; 2: entry, page; 3: marks -/
def cSg (s : jS) (v : Int) (i : Int → Int → Int → Int) (x : Int) : Prop := jf s 28 v 2 = i 1 x 0 ∧ (¬ i 1 x 0 = 0 → jf s 28 v 3 = i 1 x 1 ∧ jf s 28 v 4 = i 1 x 2 ∧ jf s 28 v 5 = i 1 x 3 ∧ ∀ k, 0 ≤ k → k < i 1 x 2 → jf s 1001 (v + 1) k = sb (i 0 x k))
def cIm (s : jS) (b : Int) (i : Int → Int → Int → Int) : Prop := (∀ x, 0 ≤ x → x < 3 → cSg s (vsg b x) i x) ∧ jf s 27 b 2 = i 2 0 0 ∧ jf s 27 b 3 = i 2 1 0 ∧ (∀ k, 0 ≤ k → k < 2048 → jf s 1002 (b + 2) k = i 3 k 0) ∧ cIz s b
theorem cSg.keep (h : cSg s v i x) (e : ∀ c a k, v ≤ a → a < v + 2 → jf t c a k = jf s c a k) : cSg t v i x := by
  obtain ⟨h1, h2⟩ := h
  exact ⟨by rw [e _ _ _ (by omega) (by omega)]; exact h1, fun q => by
    obtain ⟨a1, a2, a3, a4⟩ := h2 q
    exact ⟨by rw [e _ _ _ (by omega) (by omega)]; exact a1, by rw [e _ _ _ (by omega) (by omega)]; exact a2, by rw [e _ _ _ (by omega) (by omega)]; exact a3, fun k k0 k1 => by rw [e _ _ _ (by omega) (by omega)]; exact a4 k k0 k1⟩⟩
theorem cIm.keep (h : cIm s b i) (e : ∀ c a k, b ≤ a → a < b + 9 → jf t c a k = jf s c a k) : cIm t b i := by
  obtain ⟨h1, h2, h3, h4, h5⟩ := h
  exact ⟨fun x x0 x1 => (h1 x x0 x1).keep fun c a k a0 a1 => e c a k (by unfold vsg at a0; omega) (by unfold vsg at a1; omega), by rw [e _ _ _ (by omega) (by omega)]; exact h2, by rw [e _ _ _ (by omega) (by omega)]; exact h3, fun k k0 k1 => by rw [e _ _ _ (by omega) (by omega)]; exact h4 k k0 k1, fun x x0 x1 => by rw [e _ _ _ (by unfold vsg; omega) (by unfold vsg; omega)]; exact h5 x x0 x1⟩
theorem cIm.kf (h : cIm s b i) (g : jFx s t lo n) (hd : b + 9 ≤ lo ∨ lo + n ≤ b) : cIm t b i := h.keep fun c a k a0 a1 => g.F (by omega) k
/-- nothing there -/
def iNew : Int → Int → Int → Int := fun c a _ => if c = 2 ∧ a = 1 then 1 else 0
theorem i_clear (hz : cIz u b) : jE (m_X23_clear u b) fun q => jFx u q.1 b 9 ∧ cIm q.1 b iNew := by
  rw [em_X23_clear]; unfold dm_X23_clear
  simp only [jls]
  have k1 : jFx u (jp (jp u 27 b 2 0) 27 b 3 1) b 9 := (jFx.rfl.jp rfl (by omega) (by omega)).jp rfl (by omega) (by omega)
  have hz1 : cIz (jp (jp u 27 b 2 0) 27 b 3 1) b := fun x x0 x1 => by (repeat (first | rw [jf_neg (by omega)] | rw [jf_pos (by omega)] | rw [ou_neg (by omega)] | rw [ou_pos (by omega)])); exact hz x x0 x1
  have e2 : jf (jp (jp u 27 b 2 0) 27 b 3 1) 27 b 2 = 0 := by (repeat (first | rw [jf_neg (by omega)] | rw [jf_pos (by omega)] | rw [ou_neg (by omega)] | rw [ou_pos (by omega)]))
  have e3 : jf (jp (jp u 27 b 2 0) 27 b 3 1) 27 b 3 = 1 := by (repeat (first | rw [jf_neg (by omega)] | rw [jf_pos (by omega)] | rw [ou_neg (by omega)] | rw [ou_pos (by omega)]))
  generalize jp (jp u 27 b 2 0) 27 b 3 1 = s1 at k1 e2 e3 hz1 ⊢
  rw [eu_X23_clear_12]; unfold du_X23_clear_12
  refine jS_for (fun x t => jFx u t b 9 ∧ jf t 27 b 2 = 0 ∧ jf t 27 b 3 = 1 ∧ cIz t b ∧ ∀ y, 0 ≤ y → y < x → jf t 28 (vsg b y) 2 = 0) (fun x => [b, x]) 0 3 (by omega) ⟨k1, e2, e3, hz1, fun y y0 y1 => by omega⟩ (fun x t x0 x1 ⟨g1, g2, g3, gz, g4⟩ => ?_) (fun t ⟨g1, g2, g3, gz, g4⟩ => ?_)
  · show jE (b_X23_clear_12 t b x) _
    unfold b_X23_clear_12
    rw [if_pos x1, jix_in x0 x1, Option.bind_some, jzb_in (.inl rfl), Option.bind_some]
    simp only [jls]
    rw [W32_in (by omega) (by omega)]
    refine jS_end ⟨rfl, g1.jp rfl (by omega) (by omega), by (repeat (first | rw [jf_neg (by omega)] | rw [jf_pos (by omega)] | rw [ou_neg (by omega)] | rw [ou_pos (by omega)])); exact g2, by (repeat (first | rw [jf_neg (by omega)] | rw [jf_pos (by omega)] | rw [ou_neg (by omega)] | rw [ou_pos (by omega)])); exact g3, fun y y0 y1 => by rw [jf_neg (by omega)]; exact gz y y0 y1, fun y y0 y1 => ?_⟩
    by_cases c : y = x
    · exact jf_pos ⟨rfl, by unfold vsg; rw [c], rfl⟩
    · rw [jf_neg (by unfold vsg; omega)]; exact g4 y y0 (by omega)
  · show jE (b_X23_clear_12 t b 3) _
    unfold b_X23_clear_12
    rw [if_neg (by omega), eu_X23_clear_33]; unfold du_X23_clear_33
    rw [eu_X23_clear_35]; unfold du_X23_clear_35
    refine jS_inr ?_
    refine jS_for (fun x t => jFx u t b 9 ∧ jf t 27 b 2 = 0 ∧ jf t 27 b 3 = 1 ∧ (∀ y, 0 ≤ y → y < 3 → jf t 28 (vsg b y) 2 = 0) ∧ cIz t b ∧ ∀ k, 0 ≤ k → k < x → jf t 1002 (b + 2) k = 0) (fun x => [b, x]) 0 2048 (by omega) ⟨g1, g2, g3, g4, gz, fun k k0 k1 => by omega⟩ (fun x t x0 x1 ⟨g1, g2, g3, g4, gz, g5⟩ => ?_) (fun t ⟨g1, g2, g3, g4, gz, g5⟩ => ?_)
    · show jE (b_X23_clear_35 t b x) _
      unfold b_X23_clear_35
      rw [if_pos x1, jst_in x0 x1, Option.bind_some, Wz_0, W32_in (by omega) (by omega)]
      refine jS_end ⟨rfl, g1.jp rfl (by omega) (by omega), by (repeat (first | rw [jf_neg (by omega)] | rw [jf_pos (by omega)] | rw [ou_neg (by omega)] | rw [ou_pos (by omega)])); exact g2, by (repeat (first | rw [jf_neg (by omega)] | rw [jf_pos (by omega)] | rw [ou_neg (by omega)] | rw [ou_pos (by omega)])); exact g3, fun y y0 y1 => by rw [jf_neg (by omega)]; exact g4 y y0 y1, fun y y0 y1 => by rw [jf_neg (by omega)]; exact gz y y0 y1, fun k k0 k1 => ?_⟩
      by_cases c : k = x
      · exact jf_pos ⟨rfl, rfl, c⟩
      · (repeat (first | rw [jf_neg (by omega)] | rw [jf_pos (by omega)] | rw [ou_neg (by omega)] | rw [ou_pos (by omega)])); exact g5 k k0 (by omega)
    · show jE (b_X23_clear_35 t b 2048) _
      unfold b_X23_clear_35
      rw [if_neg (by omega)]
      exact jS_inr (jS_end ⟨g1, fun x x0 x1 => ⟨g4 x x0 x1, fun q => absurd rfl q⟩, g2, g3, fun k k0 k1 => g5 k k0 k1, gz⟩)
/-- a segment that was not there is laid -/
theorem i_lie (h : jf u 28 v 2 = 0) : jE (m_X24_lie u v x y) fun q => jFx u q.1 v 1 ∧ jf q.1 28 v 2 = 1 ∧ jf q.1 28 v 3 = x ∧ jf q.1 28 v 4 = 0 ∧ jf q.1 28 v 5 = y := by
  rw [em_X24_lie]; unfold dm_X24_lie
  rw [if_pos h]
  simp only [jls]
  rw [eu_X24_lie_12]; unfold du_X24_lie_12
  rw [jzb_in (.inr rfl), Option.bind_some]
  simp only [jls]
  exact jS_end ⟨(((jFx.rfl.jp rfl (by omega) (by omega)).jp rfl (by omega) (by omega)).jp rfl (by omega) (by omega)).jp rfl (by omega) (by omega), by (repeat (first | rw [jf_neg (by omega)] | rw [jf_pos (by omega)] | rw [ou_neg (by omega)] | rw [ou_pos (by omega)])), by (repeat (first | rw [jf_neg (by omega)] | rw [jf_pos (by omega)] | rw [ou_neg (by omega)] | rw [ou_pos (by omega)])), by (repeat (first | rw [jf_neg (by omega)] | rw [jf_pos (by omega)] | rw [ou_neg (by omega)] | rw [ou_pos (by omega)])), by (repeat (first | rw [jf_neg (by omega)] | rw [jf_pos (by omega)] | rw [ou_neg (by omega)] | rw [ou_pos (by omega)]))⟩
theorem i_add (h0 : 0 ≤ jf u 28 v 4) (h1 : jf u 28 v 4 < 4096) : m_X24_add u v x = some (jp (jp u 1001 (v + 1) (jf u 28 v 4) (W8 (W8 x))) 28 v 4 (jf u 28 v 4 + 1), 0) := by
  rw [em_X24_add]; unfold dm_X24_add
  rw [jst_in h0 h1, Option.bind_some]
  simp only [jls]
  rw [jf_neg (by omega), W32_in (by omega) (by omega)]
end jIimg
