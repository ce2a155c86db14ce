/-! the shorter word -/
section jShorter
variable {s t : jS} {W V : Int}
/-- the words' objects, with what may be written beside them -/
def pWd (s : jS) (W : Int) : Prop := pWA s W ∧ ∀ k : Nat, k < 75 → ∀ e : Nat, e < 4 → (cFd k e).1 = 6 ∨ (cFd k e).1 = 12 ∨ (cFd k e).1 = 14 → ¬ jf s (cFd k e).1 (jf s 1007 (jf s 11 (jf s 1008 (W + 23) k) 5) e) 0 = W + 24 ∧ ¬ jf s (cFd k e).1 (jf s 1007 (jf s 11 (jf s 1008 (W + 23) k) 5) e) 0 = W + 25
/-- only the two small rows differ -/
def Wrw (s s' : jS) (W : Int) : Prop := jSm s s' ∧ ∀ c a k, ¬ (c = 1000 ∧ (a = W + 24 ∨ a = W + 25)) → jf s' c a k = jf s c a k
theorem Wrw.rfl : Wrw s s W := ⟨jSm.rfl, fun _ _ _ _ => Eq.refl _⟩
theorem Wrw.trans {u : jS} (h : Wrw s t W) (g : Wrw t u W) : Wrw s u W := ⟨h.1.trans g.1, fun c a k q => (g.2 c a k q).trans (h.2 c a k q)⟩
theorem Wrw.jp {a k v : Int} (h : Wrw s t W) (ha : a = W + 24 ∨ a = W + 25) : Wrw s (jp t 1000 a k v) W := ⟨h.1.jp, fun c x j q => by rw [jf_jp, if_neg (fun z => q ⟨z.1, by rw [z.2.1]; exact ha⟩)]; exact h.2 c x j q⟩
theorem pFA.keep {f : Int} {d : Nat × Int × List Int} (h : pFA s f d) (m : Wrw s t W) (hp : d.1 = 6 ∨ d.1 = 12 ∨ d.1 = 14 → ¬ jf s d.1 f 0 = W + 24 ∧ ¬ jf s d.1 f 0 = W + 25) : pFA t f d := by
  obtain ⟨f0, f1, f2, h⟩ := h
  obtain ⟨m1, m2⟩ := m
  have hd : d.1 = 4 ∨ d.1 = 5 ∨ d.1 = 6 ∨ d.1 = 12 ∨ d.1 = 14 := by
    rcases h with h | h | h
    · exact .inl h.1
    · exact .inr (.inl h.1)
    · exact .inr (.inr h.1)
  have e : ∀ k, jf t d.1 f k = jf s d.1 f k := fun k => m2 _ _ _ (by omega)
  refine ⟨f0, by rw [m1.2.2.1]; exact f1, by rw [m1.1]; exact f2, ?_⟩
  rcases h with h | h | ⟨c, h1, h2, h3, h4, h5⟩
  · refine .inl ⟨h.1, ?_, ?_⟩
    · rw [m2 _ _ _ (by omega)]; exact h.2.1
    · rw [m2 _ _ _ (by omega)]; exact h.2.2
  · refine .inr (.inl ⟨h.1, ?_⟩)
    rw [m2 _ _ _ (by omega)]; exact h.2
  · obtain ⟨p1, p2⟩ := hp c
    refine .inr (.inr ⟨c, by rw [e]; exact h1, by rw [e]; exact h2, by rw [e, m1.1]; exact h3, by rw [e, m1.2.1]; exact h4, fun i hi => ?_⟩)
    rw [e, m2 _ _ _ (by omega)]; exact h5 i hi
theorem pWd.keep (h : pWd s W) (m : Wrw s t W) : pWd t W := by
  obtain ⟨h1, h2⟩ := h
  have m2 := m.2
  have e8 : ∀ k, jf t 1008 (W + 23) k = jf s 1008 (W + 23) k := fun k => m2 _ _ _ (by omega)
  have e11 : ∀ a k, jf t 11 a k = jf s 11 a k := fun a k => m2 _ _ _ (by omega)
  have e7 : ∀ a k, jf t 1007 a k = jf s 1007 a k := fun a k => m2 _ _ _ (by omega)
  have e13 : ∀ a k, jf t 13 a k = jf s 13 a k := fun a k => m2 _ _ _ (by omega)
  constructor
  · intro k hk
    obtain ⟨a1, a2, a3, a4, a5, a6, a7, a8, a9, a10⟩ := h1 k hk
    unfold pKA
    rw [e8]
    simp only [e11, e7, e13]
    refine ⟨⟨a1.1, by rw [m.1.2.2.1]; exact a1.2.1, by rw [m.1.1]; exact a1.2.2.1, fun q => absurd q (by decide)⟩, a2, a3, a4, a5, a6, by rw [m.1.1]; exact a7, by rw [m.1.2.1]; exact a8, fun e he => ?_, fun q => ?_⟩
    · obtain ⟨b1, b2⟩ := a9 e he
      exact ⟨b1, fun c => (b2 c).keep m (h2 k hk e he)⟩
    · obtain ⟨c1, c2, c3⟩ := a10 q
      exact ⟨c1, by rw [m.1.1]; exact c2, c3⟩
  · intro k hk e he c
    have hz := h2 k hk e he c
    rw [e8, e11, e7]
    have : ∀ a j, jf t (cFd k e).1 a j = jf s (cFd k e).1 a j := fun a j => m2 _ _ _ (by omega)
    rw [this]; exact hz
/-- a good part's word again: the parts are good -/
theorem good_of {k : Nat} {w : Int} (h : pTk k w = true) : pGood k (pPt k w) = true := by
  unfold pTk at h
  unfold pPt
  cases hq : pRes k w with
  | none => rw [hq] at h; cases h
  | some q => rw [hq] at h; exact h
theorem pPut_lt {k : Nat} (h48 : 48 ≤ k) (p : jP4) : 0 ≤ pPut k p ∧ pPut k p < 65536 := by
  have hb : pBits k = 16 := by unfold pBits; rw [if_neg (by omega)]
  unfold pPut
  rw [hb]
  have h := pvv_lo (fun i => pb p (pRow (32 * k + i))) (fun i => pb_01 p _) 16
  rw [show (2 : Int) ^ 16 = 65536 from rfl] at h
  rw [W32_in (by omega) (by omega)]
  exact h
theorem c_from (h : pWA s W) {k : Nat} (hk : k < 75) (h48 : 48 ≤ k) {w : Int} (hw : 0 ≤ w ∧ w < 65536) (ht : pTk k w = true) {x : Int} (hx : -3 ≤ x ∧ x ≤ 2) : m_X2_from s (jf s 1008 (W + 23) k) w x = some (cFr x (pPt k w)) := by
  have hA := h k hk
  rw [em_X2_from]; unfold dm_X2_from cFr
  by_cases c : x < 0
  · rw [if_pos c, if_pos c, W32_in (by omega) (by omega), jct_in hA.t]
    have e : (-1 : Int) - x = (((-1 - x).toNat : Nat) : Int) := by omega
    rw [e, s_X7_part hA hk (by omega) (by omega), Option.bind_some, Int.toNat_natCast]
    cases hq : pRes k w with
    | none => unfold pTk at ht; rw [hq] at ht; cases ht
    | some q =>
      have hp : pPt k w = pAdj k q := by unfold pPt; rw [hq]
      rw [hp, take_adj hk hq (by omega)]
  · rw [if_neg c, if_neg c]
theorem p4_eta (p : jP4) : p = (p.1, p.2.1, p.2.2.1, p.2.2.2) := rfl
theorem nrm_pt {k : Nat} (hk : k < 75) {w : Int} (ht : pTk k w = true) : nrm k (pPt k w) = pPt k w := by
  cases hq : pRes k w with
  | none => unfold pTk at ht; rw [hq] at ht; cases ht
  | some q =>
    have hp : pPt k w = pAdj k q := by unfold pPt; rw [hq]
    have z : ∀ e : Nat, e < 4 → ¬ pHas k e = true → p4g (pAdj k q) e = 0 := by
      intro e he hn
      rw [take_adj hk hq he, if_pos]
      have := tab_has k hk e he
      rw [this] at hn
      apply Classical.byContradiction
      intro y
      exact hn (by simp [y])
    rw [hp]
    unfold nrm
    have z0 := z 0 (by omega)
    have z1 := z 1 (by omega)
    have z2 := z 2 (by omega)
    have z3 := z 3 (by omega)
    rw [p4_eta (pAdj k q)]
    congr 1
    · by_cases c : pHas k 0 = true
      · rw [if_pos c]
      · rw [if_neg c]; exact (z0 c).symm
    congr 1
    · by_cases c : pHas k 1 = true
      · rw [if_pos c]
      · rw [if_neg c]; exact (z1 c).symm
    congr 1
    · by_cases c : pHas k 2 = true
      · rw [if_pos c]
      · rw [if_neg c]; exact (z2 c).symm
    · by_cases c : pHas k 3 = true
      · rw [if_pos c]
      · rw [if_neg c]; exact (z3 c).symm
/-- the long word for a short one -/
theorem c_stretched (h : pWA s W) {k : Nat} (hk : k < 75) (h48 : 48 ≤ k) {w : Int} (hw : 0 ≤ w ∧ w < 65536) (ht : pTk k w = true) : m_X2_stretched s W (jf s 1008 (W + 23) k) w = some (pPut (pLK k) (pStr k (pPt k w))) := by
  have hA := h k hk
  obtain ⟨t1, t2, t3, t4, t5, t6, t7⟩ := tab_SL k hk h48
  obtain ⟨g1, g2, g3⟩ := st_k w k hk h48 ht
  obtain ⟨s1, s2, s3, s4, s5, s6⟩ := hA.2.2.2.2.2.2.2.2.2 h48
  have hL := pLK_lt k h48 hk
  have hr : ∀ j, jrd s 13 (jf s 11 (jf s 1008 (W + 23) k) 6) j = some (jf s 13 (jf s 11 (jf s 1008 (W + 23) k) 6) j) := fun j => jrd_in s1 s2
  have h6 : jrd s 11 (jf s 1008 (W + 23) k) 6 = some (jf s 11 (jf s 1008 (W + 23) k) 6) := jrd_in hA.1.1 (show jK s _ = 11 from hA.1.2.2.1)
  obtain ⟨l1, l2⟩ := h.at (i := (pLK k : Int)) (by omega) (by omega)
  rw [em_X2_stretched]; unfold dm_X2_stretched
  rw [h6]
  simp only [Option.bind_some, hr, s3, s4, s5, s6]
  rw [t1, l1, Option.bind_some, c_from h hk h48 hw ht ⟨t2, t3⟩, Option.bind_some, c_from h hk h48 hw ht ⟨t4, t5⟩, Option.bind_some, c_from h hk h48 hw ht ⟨t6, t7⟩, Option.bind_some, jct_in hA.t]
  have e3 : m_X7_part s (jf s 1008 (W + 23) k) w 3 = some (p4g (pPt k w) 3) := by
    have := s_X7_part hA hk (e := 3) (by omega) (w := w) (by omega)
    refine this.trans ?_
    cases hq : pRes k w with
    | none => unfold pTk at ht; rw [hq] at ht; cases ht
    | some q =>
      have hp : pPt k w = pAdj k q := by unfold pPt; rw [hq]
      rw [hp, take_adj hk hq (by omega)]
  rw [e3, Option.bind_some]
  have hs : (cFr (cSd k).2.1 (pPt k w), cFr (cSd k).2.2.1 (pPt k w), cFr (cSd k).2.2.2 (pPt k w), p4g (pPt k w) 3) = pStr k (pPt k w) := cSd_str k hk h48 _ (nrm_pt hk ht)
  have hgd : pGood (pLK k) (pStr k (pPt k w)) = true := by
    have := good_of g1
    rw [g2] at this; exact this
  rw [← hs] at hgd g3
  have := c_made h (k := (pLK k : Int)) (by omega) (by omega) (d := cFr (cSd k).2.1 (pPt k w)) (a := cFr (cSd k).2.2.1 (pPt k w)) (b := cFr (cSd k).2.2.2 (pPt k w)) (i := p4g (pPt k w) 3) (by rw [Int.toNat_natCast]; exact hgd) (fun e he => by have := g3 e he; omega)
  rw [this, Option.bind_some, Int.toNat_natCast, hs]
end jShorter
