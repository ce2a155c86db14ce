/-! questions about a read object, on both sides -/
section jAsks
variable {s t : jS} {O X x k w : Int} {o : Int → Int → Int → Int}
def qSec (o : Int → Int → Int → Int) (x w : Int) : Int := if 0 ≤ x ∧ x ≤ 3 ∧ 0 ≤ w ∧ w ≤ 1 then o 1 x w else -1
def qSt (o : Int → Int → Int → Int) (k : Int) : Int := if 0 ≤ k ∧ k < o 2 0 0 then o 3 k 0 else -1
def qSy (o : Int → Int → Int → Int) (k w : Int) : Int := if (0 ≤ k ∧ k < o 2 1 0) ∧ 0 ≤ w ∧ (w < 6 ∨ w - 6 < o 4 k 5) then o 4 k w else -1
def qRl (o : Int → Int → Int → Int) (k w : Int) : Int := if (0 ≤ k ∧ k < o 2 2 0) ∧ 0 ≤ w ∧ w < 5 then o 5 k w else -1
def qCt (o : Int → Int → Int → Int) (w : Int) : Int := if w = 0 then o 2 0 0 else if w = 1 then o 2 1 0 else if w = 2 then o 2 2 0 else if w = 3 then cn (isH o) (o 2 0 0) else -1
theorem c_qSec (h : cOb s (O + 614) o) : m_X13_section s O x w = some (qSec o x w) := by
  rw [e_X13_section]; unfold v_X13_section qSec
  by_cases c : 0 ≤ x ∧ x ≤ 3
  · obtain ⟨a1, a2⟩ := h.2.1 x c.1 (by omega)
    rw [if_pos (show ¬ x < 0 ∧ ¬ 3 < x by omega), a1, a2]
    by_cases d : 0 ≤ w ∧ w ≤ 1
    · rw [if_pos (show ¬ w < 0 ∧ ¬ 1 < w by omega)]
      by_cases e : w = 0
      · rw [if_pos e, if_pos (by omega), e]
      · rw [if_neg e, if_pos (by omega), show w = 1 by omega]
    · rw [if_neg (show ¬ (¬ w < 0 ∧ ¬ 1 < w) by omega), if_neg (fun z => d z.2.2)]
  · rw [if_neg (show ¬ (¬ x < 0 ∧ ¬ 3 < x) by omega), if_neg (fun z => c ⟨z.1, z.2.1⟩)]
theorem c_qSt (h : cOb s (O + 614) o) (v : vOb o) (hk : jin k) : m_X13_startAt s O k = some (qSt o k) := by
  obtain ⟨v1, v2, v3, v4, v5, v6⟩ := v.2.2.1
  obtain ⟨n1, n2, n3⟩ := h.2.2.2.1
  rw [e_X13_startAt _ _ _ (by rw [n1, W32_in (by omega) (by omega)]; omega), n1, W32_in (by omega) (by omega)]; unfold qSt
  by_cases c : 0 ≤ k ∧ k < o 2 0 0
  · rw [if_pos (show ¬ k < 0 ∧ ¬ o 2 0 0 - 1 < k by omega), if_pos c, h.2.2.2.2.1 k c.1 c.2]
  · rw [if_neg (show ¬ (¬ k < 0 ∧ ¬ o 2 0 0 - 1 < k) by omega), if_neg c]
theorem c_qSy (h : cOb s (O + 614) o) (v : vOb o) (hw : jin w) : m_X13_symbolAt s O k w = some (qSy o k w) := by
  obtain ⟨v1, v2, v3, v4, v5, v6⟩ := v.2.2.1
  obtain ⟨n1, n2, n3⟩ := h.2.2.2.1
  have hj := hw
  unfold jin at hj
  rw [em_X13_symbolAt]; unfold dm_X13_symbolAt
  rw [e_X13_in, n2, W32_in (z := o 2 1 0 - 1) (by omega) (by omega), Option.bind_some]; unfold qSy
  by_cases c : 0 ≤ k ∧ k < o 2 1 0
  · rw [if_pos (show ¬ k < 0 ∧ ¬ o 2 1 0 - 1 < k by omega), if_neg (show ¬ (1 : Int) = 0 by decide)]
    by_cases d : w < 0
    · rw [if_pos d, if_neg (fun z => by omega)]
    · rw [if_neg d, jix_in c.1 (by omega), Option.bind_some]
      obtain ⟨y0, y1, y2, y3, y4, y5, y6⟩ := h.2.2.2.2.2.1 k c.1 c.2
      have vs := (v.2.2.2.2.1 k c.1 c.2).2.2.2.2.2.2.2.2.2.1
      rw [e_X16_tell _ _ _ (fun _ _ _ _ _ _ z => by rw [W32_in (z := w - 6) (by omega) (by omega), y5, W32_in (z := o 4 k 5 - 1) (by have := vs.at; omega) (by have := vs.at; omega)] at z; rw [W32_in (z := w - 6) (by omega) (by omega)]; have := vs.at; omega), Option.bind_some]
      unfold v_X16_tell
      rw [y0, y1, y2, y3, y4, y5]
      by_cases e0 : w = 0
      · rw [if_pos e0, if_pos ⟨c, by omega⟩, e0]
      rw [if_neg e0]
      by_cases e1 : w = 1
      · rw [if_pos e1, if_pos ⟨c, by omega⟩, e1]
      rw [if_neg e1]
      by_cases e2 : w = 2
      · rw [if_pos e2, if_pos ⟨c, by omega⟩, e2]
      rw [if_neg e2]
      by_cases e3 : w = 3
      · rw [if_pos e3, if_pos ⟨c, by omega⟩, e3]
      rw [if_neg e3]
      by_cases e4 : w = 4
      · rw [if_pos e4, if_pos ⟨c, by omega⟩, e4]
      rw [if_neg e4]
      by_cases e5 : w = 5
      · rw [if_pos e5, if_pos ⟨c, by omega⟩, e5]
      have q := vs.at
      rw [if_neg e5, W32_in (z := w - 6) (by omega) (by omega), W32_in (z := o 4 k 5 - 1) (by omega) (by omega)]
      by_cases e6 : w - 6 < o 4 k 5
      · rw [if_pos (by omega), if_pos ⟨c, by omega, .inr e6⟩, y6 (w - 6) (by omega) e6, show 6 + (w - 6) = w by omega]
      · rw [if_neg (by omega), if_neg (fun z => by omega)]
  · rw [if_neg (show ¬ (¬ k < 0 ∧ ¬ o 2 1 0 - 1 < k) by omega), if_pos rfl, if_neg (fun z => c z.1)]
theorem c_qRl (h : cOb s (O + 614) o) (v : vOb o) : m_X13_relocationAt s O k w = some (qRl o k w) := by
  obtain ⟨v1, v2, v3, v4, v5, v6⟩ := v.2.2.1
  obtain ⟨n1, n2, n3⟩ := h.2.2.2.1
  rw [e_X13_relocationAt _ _ _ _ (by rw [n3, W32_in (by omega) (by omega)]; omega), n3, W32_in (by omega) (by omega)]; unfold qRl
  by_cases c : 0 ≤ k ∧ k < o 2 2 0
  · obtain ⟨y0, y1, y2, y3, y4⟩ := h.2.2.2.2.2.2 k c.1 c.2
    rw [if_pos (show ¬ k < 0 ∧ ¬ o 2 2 0 - 1 < k by omega)]
    unfold v_X18_tell
    rw [y0, y1, y2, y3, y4]
    by_cases e0 : w = 0
    · rw [if_pos e0, if_pos ⟨c, by omega⟩, e0]
    rw [if_neg e0]
    by_cases e1 : w = 1
    · rw [if_pos e1, if_pos ⟨c, by omega⟩, e1]
    rw [if_neg e1]
    by_cases e2 : w = 2
    · rw [if_pos e2, if_pos ⟨c, by omega⟩, e2]
    rw [if_neg e2]
    by_cases e3 : w = 3
    · rw [if_pos e3, if_pos ⟨c, by omega⟩, e3]
    rw [if_neg e3]
    by_cases e4 : w = 4
    · rw [if_pos e4, if_pos ⟨c, by omega⟩, e4]
    rw [if_neg e4, if_neg (fun z => by omega)]
  · rw [if_neg (show ¬ (¬ k < 0 ∧ ¬ o 2 2 0 - 1 < k) by omega), if_neg (fun z => c z.1)]
theorem c_qCt (h : cOb s (O + 614) o) (v : vOb o) (g : gOb o) : m_X13_count s O w = some (qCt o w) := by
  obtain ⟨n1, n2, n3⟩ := h.2.2.2.1
  rw [em_X13_count]; unfold dm_X13_count qCt
  rw [n1, n2, n3, c_shorts h v (gOb_bd1 g), Option.bind_some]
  by_cases e0 : w = 0
  · rw [if_pos e0, if_pos e0]
  rw [if_neg e0, if_neg e0]
  by_cases e1 : w = 1
  · rw [if_pos e1, if_pos e1]
  rw [if_neg e1, if_neg e1]
  by_cases e2 : w = 2
  · rw [if_pos e2, if_pos e2]
  rw [if_neg e2, if_neg e2]
  by_cases e3 : w = 3
  · rw [if_pos e3, if_pos e3]
  rw [if_neg e3, if_neg e3]
theorem t_qSec (h : tOb t X 1 o) : m_X40_section t X x w = some (qSec o x w) := by
  rw [em_X40_section]; unfold dm_X40_section qSec
  by_cases c : x < 0
  · rw [if_pos c, if_neg (fun z => by omega)]
  rw [if_neg c]
  by_cases c' : 3 < x
  · rw [if_pos c', if_neg (fun z => by omega)]
  obtain ⟨a1, a2⟩ := h.1 x (by omega) (by omega)
  rw [if_neg c', W32_in (by omega) (by omega), jlt_in (by omega) (by omega), Option.bind_some, jlt_in (by omega) (by omega), Option.bind_some, show (4 : Int) + x = 4 * 1 + x by omega, a1, a2]
  by_cases e0 : w = 0
  · rw [if_pos e0, if_pos (by omega), e0]
  rw [if_neg e0]
  by_cases e1 : w = 1
  · rw [if_pos e1, if_pos (by omega), e1]
  · rw [if_neg e1, if_neg (by omega)]
theorem t_qSt (h : tOb t X 1 o) (v : vOb o) : m_X40_startAt t X k = some (qSt o k) := by
  obtain ⟨v1, v2, v3, v4, v5, v6⟩ := v.2.2.1
  obtain ⟨n1, n2, n3⟩ := h.2.2.1
  rw [em_X40_startAt]; unfold dm_X40_startAt qSt
  by_cases c : k < 0
  · rw [if_pos c, if_neg (fun z => by omega)]
  rw [if_neg c, jlt_in (by omega) (by omega), Option.bind_some, n1]
  by_cases c' : k < o 2 0 0
  · rw [if_pos c', W32_in (by omega) (by omega), jlt_in (by omega) (by omega), Option.bind_some, if_pos (by omega), show (1024 : Int) + k = 1024 * 1 + k by omega, h.2.2.2.1 k (by omega) c']
  · rw [if_neg c', if_neg (fun z => c' z.2)]
theorem t_qSy (h : tOb t X 1 o) (v : vOb o) (hw : jin w) : m_X40_symbolAt t X k w = some (qSy o k w) := by
  obtain ⟨v1, v2, v3, v4, v5, v6⟩ := v.2.2.1
  obtain ⟨n1, n2, n3⟩ := h.2.2.1
  have hj := hw
  unfold jin at hj
  rw [em_X40_symbolAt]; unfold dm_X40_symbolAt qSy
  by_cases c : k < 0
  · rw [if_pos c, if_neg (fun z => by omega)]
  rw [if_neg c, jlt_in (by omega) (by omega), Option.bind_some, n2]
  by_cases c' : k < o 2 1 0
  · obtain ⟨y0, y1, y2, y3, y4, y5, y6⟩ := h.2.2.2.2.1 k (by omega) c'
    have q := ((v.2.2.2.2.1 k (by omega) c').2.2.2.2.2.2.2.2.2.1).at
    have cc : 0 ≤ k ∧ k < o 2 1 0 := ⟨by omega, c'⟩
    rw [if_pos c', jlet, W32_in (z := 100 + k) (by omega) (by omega), jlt_in (by omega) (by omega), Option.bind_some, jlt_in (by omega) (by omega), Option.bind_some, jlt_in (by omega) (by omega), Option.bind_some, jlt_in (by omega) (by omega), Option.bind_some, jlt_in (by omega) (by omega), Option.bind_some, jlt_in (by omega) (by omega), Option.bind_some, Option.bind_some]
    rw [show (100 : Int) + k = 100 * 1 + k by omega, y0, y1, y2, y3, y4, y5]
    by_cases e0 : w = 0
    · rw [if_pos e0, if_pos ⟨cc, by omega⟩, e0]
    rw [if_neg e0]
    by_cases e1 : w = 1
    · rw [if_pos e1, if_pos ⟨cc, by omega⟩, e1]
    rw [if_neg e1]
    by_cases e2 : w = 2
    · rw [if_pos e2, if_pos ⟨cc, by omega⟩, e2]
    rw [if_neg e2]
    by_cases e3 : w = 3
    · rw [if_pos e3, if_pos ⟨cc, by omega⟩, e3]
    rw [if_neg e3]
    by_cases e4 : w = 4
    · rw [if_pos e4, if_pos ⟨cc, by omega⟩, e4]
    rw [if_neg e4]
    by_cases e5 : w = 5
    · rw [if_pos e5, if_pos ⟨cc, by omega⟩, e5]
    rw [if_neg e5]
    by_cases e6 : w < 6
    · rw [if_pos e6, if_neg (fun z => by omega)]
    rw [if_neg e6, W32_in (z := w - 6) (by omega) (by omega)]
    by_cases e7 : w - 6 < o 4 k 5
    · rw [if_pos e7, if_pos ⟨cc, by omega, .inr e7⟩, W32_in (z := 16 * (100 * 1 + k)) (by omega) (by omega), W32_in (z := 16 * (100 * 1 + k) + w) (by omega) (by omega), W32_in (by omega) (by omega), jlt_in (by omega) (by omega), Option.bind_some, show 16 * (100 * 1 + k) + w - 6 = 16 * (100 * 1 + k) + (w - 6) by omega, y6 (w - 6) (by omega) e7, show 6 + (w - 6) = w by omega]
    · rw [if_neg e7, if_neg (fun z => by omega)]
  · rw [if_neg c', if_neg (fun z => c' z.1.2)]
theorem t_qRl (h : tOb t X 1 o) (v : vOb o) : m_X40_relocationAt t X k w = some (qRl o k w) := by
  obtain ⟨v1, v2, v3, v4, v5, v6⟩ := v.2.2.1
  obtain ⟨n1, n2, n3⟩ := h.2.2.1
  rw [em_X40_relocationAt]; unfold dm_X40_relocationAt qRl
  by_cases c : k < 0
  · rw [if_pos c, if_neg (fun z => by omega)]
  rw [if_neg c, jlt_in (by omega) (by omega), Option.bind_some, n3]
  by_cases c' : k < o 2 2 0
  · obtain ⟨y0, y1, y2, y3, y4⟩ := h.2.2.2.2.2 k (by omega) c'
    have cc : 0 ≤ k ∧ k < o 2 2 0 := ⟨by omega, c'⟩
    rw [if_pos c', jlet, W32_in (z := 300 + k) (by omega) (by omega), jlt_in (by omega) (by omega), Option.bind_some, jlt_in (by omega) (by omega), Option.bind_some, jlt_in (by omega) (by omega), Option.bind_some, jlt_in (by omega) (by omega), Option.bind_some, jlt_in (by omega) (by omega), Option.bind_some]
    rw [show (300 : Int) + k = 300 * 1 + k by omega, y0, y1, y2, y3, y4]
    by_cases e0 : w = 0
    · rw [if_pos e0, if_pos ⟨cc, by omega⟩, e0]
    rw [if_neg e0]
    by_cases e1 : w = 1
    · rw [if_pos e1, if_pos ⟨cc, by omega⟩, e1]
    rw [if_neg e1]
    by_cases e2 : w = 2
    · rw [if_pos e2, if_pos ⟨cc, by omega⟩, e2]
    rw [if_neg e2]
    by_cases e3 : w = 3
    · rw [if_pos e3, if_pos ⟨cc, by omega⟩, e3]
    rw [if_neg e3]
    by_cases e4 : w = 4
    · rw [if_pos e4, if_pos ⟨cc, by omega⟩, e4]
    rw [if_neg e4, if_neg (fun z => by omega)]
  · rw [if_neg c', if_neg (fun z => c' z.1.2)]
theorem t_qCt (h : tOb t X 1 o) (v : vOb o) (g : gOb o) : m_X40_count t X w = some (qCt o w) := by
  obtain ⟨v1, v2, v3, v4, v5, v6⟩ := v.2.2.1
  obtain ⟨n1, n2, n3⟩ := h.2.2.1
  rw [em_X40_count]; unfold dm_X40_count
  rw [eu_X40_count_4]; unfold du_X40_count_4
  refine jforR (C := jc4 b_X40_count_4) (fun k => [X, w, cn (isH o) k, k]) 0 (o 2 0 0) v1 (fun k k0 k1 => ?_) ?_
  · show b_X40_count_4 t X w (cn (isH o) k) k = _
    unfold b_X40_count_4
    have hc := cn_lo (P := isH o) k0
    have hs := cn_s (P := isH o) k0
    obtain ⟨g1, g2, g3⟩ := g.1 k k0 k1
    have ht := h.2.2.2.1 k k0 k1
    have hv := v.1 0 (by omega) (by omega)
    rw [if_neg (by omega)] at hv
    have hb := h.2.1 0 (o 3 k 0) (by omega) (by omega) g1 g2
    have vb := v.2.1 0 (o 3 k 0) (by omega) (by omega) g1 g2
    have eo : isH o k = true ↔ ¬ o 0 0 (o 3 k 0) % 4 = 3 := by unfold isH; simp
    rw [jlt_in (by omega) (by omega), Option.bind_some, n1, if_pos k1, W32_in (z := 1024 + k) (by omega) (by omega), jlt_in (by omega) (by omega), Option.bind_some, show (1024 : Int) + k = 1024 * 1 + k by omega, ht, W32_in (z := 6144 + o 3 k 0) (by omega) (by omega), jlt_in (by omega) (by omega), Option.bind_some, show (6144 : Int) + o 3 k 0 = 6144 * 1 + (2048 * 0 + o 3 k 0) by omega, hb, e_X40_isShort, Option.bind_some, I_and_3]
    simp only [em_X40_count, dm_X40_count, eu_X40_count_53, du_X40_count_53, eu_X40_count_45, du_X40_count_45, jlet]
    by_cases c : o 0 0 (o 3 k 0) % 4 = 3
    · rw [if_neg (not_not_intro c), if_pos rfl, hs, if_neg (fun z => eo.mp z c), W32_in (by omega) (by omega), W32_in (by omega) (by omega)]
    · rw [if_pos c, if_neg (by omega), hs, if_pos (eo.mpr c), W32_in (by omega) (by omega), W32_in (by omega) (by omega)]
  · show b_X40_count_4 t X w (cn (isH o) (o 2 0 0)) (o 2 0 0) = _
    unfold b_X40_count_4
    rw [jlt_in (by omega) (by omega), Option.bind_some, n1, if_neg (by omega)]
    congr 1
    rw [eu_X40_count_53]; unfold du_X40_count_53 qCt
    by_cases e0 : w = 0
    · rw [if_pos e0, if_pos e0, jlt_in (by omega) (by omega), Option.bind_some, n1]
    rw [if_neg e0, if_neg e0]
    by_cases e1 : w = 1
    · rw [if_pos e1, if_pos e1, jlt_in (by omega) (by omega), Option.bind_some, n2]
    rw [if_neg e1, if_neg e1]
    by_cases e2 : w = 2
    · rw [if_pos e2, if_pos e2, jlt_in (by omega) (by omega), Option.bind_some, n3]
    rw [if_neg e2, if_neg e2]
    by_cases e3 : w = 3
    · rw [if_pos e3, if_pos e3]
    rw [if_neg e3, if_neg e3]
end jAsks
