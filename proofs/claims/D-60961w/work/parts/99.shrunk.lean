/-! the shorter word: both searches -/
set_option maxRecDepth 100000
section jShrunk
variable {s t : jS} {W V : Int}
def srcK (k : Nat) (p : Nat) : Int := p4g ((cSd k).2.1, (cSd k).2.2.1, (cSd k).2.2.2, 0) p
def stepP (k : Nat) (P : jP4) (p : Nat) (Q : jP4) : jP4 := if srcK k p < 0 then p4s Q (-1 - srcK k p).toNat (p4g P p) else Q
/-- the parts that the component tries -/
def Pcs (k : Nat) (P : jP4) : jP4 := stepP k P 2 (stepP k P 1 (stepP k P 0 (0, 0, 0, P.2.2.2)))
theorem tab_sk : ∀ k, k < 75 → 48 ≤ k → ∀ e, e < 3 → (-3 ≤ srcK k e ∧ srcK k e ≤ 2) ∧ (pHas k e = true → srcK k e = -1 - (e : Int)) := by decide +kernel
theorem stepP_g (k : Nat) (P Q : jP4) (p e : Nat) (hk : k < 75) (h48 : 48 ≤ k) (hp : p < 3) (he : e < 4) : p4g (stepP k P p Q) e = if srcK k p = -1 - (e : Int) then p4g P p else p4g Q e := by
  have ht := (tab_sk k hk h48 p hp).1
  unfold stepP
  by_cases c : srcK k p < 0
  · rw [if_pos c]
    by_cases d : (-1 - srcK k p).toNat = e
    · rw [if_pos (by omega), d, p4_gs _ _ _ he]
    · rw [if_neg (by omega), p4_gs_ne _ _ _ _ (by omega) he (fun z => d z.symm)]
  · rw [if_neg c, if_neg (by omega)]
theorem Pcs_g (k : Nat) (P : jP4) (hk : k < 75) (h48 : 48 ≤ k) (e : Nat) (he : e < 4) : p4g (Pcs k P) e = if srcK k 2 = -1 - (e : Int) then p4g P 2 else if srcK k 1 = -1 - (e : Int) then p4g P 1 else if srcK k 0 = -1 - (e : Int) then p4g P 0 else p4g (0, 0, 0, P.2.2.2) e := by
  unfold Pcs
  rw [stepP_g _ _ _ _ _ hk h48 (by omega) he, stepP_g _ _ _ _ _ hk h48 (by omega) he, stepP_g _ _ _ _ _ hk h48 (by omega) he]
/-- parts that agree where a kind has them -/
def sameP (k : Nat) (p q : jP4) : Prop := ∀ e : Nat, e < 4 → pHas k e = true → p4g p e = p4g q e
theorem sameP.nr {k : Nat} {p q : jP4} (h : sameP k p q) : nrm k p = nrm k q := by
  have h0 := h 0 (by omega)
  have h1 := h 1 (by omega)
  have h2 := h 2 (by omega)
  have h3 := h 3 (by omega)
  unfold nrm
  congr 1
  · by_cases c : pHas k 0 = true
    · rw [if_pos c, if_pos c]; exact h0 c
    · rw [if_neg c, if_neg c]
  congr 1
  · by_cases c : pHas k 1 = true
    · rw [if_pos c, if_pos c]; exact h1 c
    · rw [if_neg c, if_neg c]
  congr 1
  · by_cases c : pHas k 2 = true
    · rw [if_pos c, if_pos c]; exact h2 c
    · rw [if_neg c, if_neg c]
  · by_cases c : pHas k 3 = true
    · rw [if_pos c, if_pos c]; exact h3 c
    · rw [if_neg c, if_neg c]
theorem has_cls {k : Nat} (hk : k < 75) {e : Nat} (he : e < 4) : pHas k e = true ↔ ¬ (cFd k e).1 = 0 := by
  rw [tab_has k hk e he]
  by_cases c : (cFd k e).1 = 0 <;> simp [c]
theorem sameP.good {k : Nat} (hk : k < 75) {p q : jP4} (h : sameP k p q) : pGood k p = true ↔ pGood k q = true := by
  rw [good_iff hk, good_iff hk]
  unfold cGood
  have key : ∀ e : Nat, e < 4 → (((cFd k e).1 = 0 ∨ fMay (cFd k e) (p4g p e)) ↔ ((cFd k e).1 = 0 ∨ fMay (cFd k e) (p4g q e))) := by
    intro e he
    by_cases c : (cFd k e).1 = 0
    · exact ⟨fun _ => .inl c, fun _ => .inl c⟩
    · rw [h e he ((has_cls hk he).mpr c)]
  exact ⟨fun z e he => (key e he).mp (z e he), fun z e he => (key e he).mpr (z e he)⟩
theorem sameP.put {k : Nat} (hk : k < 75) {p q : jP4} (h : sameP k p q) : pPut k p = pPut k q := by
  refine word_ext (pPut_in _ _) (pPut_in _ _) fun j hj => ?_
  rw [← lks_put hk p j hj, ← lks_put hk q j hj]
  have key : ∀ n : Nat, n ≤ 4 → lks k p n j = lks k q n j := by
    intro n
    induction n with
    | zero => intro _; rfl
    | succ e ih =>
      intro he
      have ih := ih (by omega)
      show lk (cG k e) (if (cFd k e).1 = 5 then p4g p e - 8 else p4g p e) (lks k p e) (cN k e) j = lk (cG k e) (if (cFd k e).1 = 5 then p4g q e - 8 else p4g q e) (lks k q e) (cN k e) j
      by_cases c : (cFd k e).1 = 0
      · rw [tab_zero k hk e (by omega) c]; exact ih
      · rw [h e (by omega) ((has_cls hk (by omega)).mpr c), lk_src, lk_src]
        split
        · exact ih
        · rfl
  exact key 4 (by omega)
/-- what a long word's parts are if it stands for the short kind's word -/
theorem acc_parts {k : Nat} (hk : k < 75) (h48 : 48 ≤ k) {w : Int} {q : jP4} (hg : pGood k q = true) (hq : pPut (pLK k) (pStr k (nrm k q)) = w) : pPt (pLK k) w = pStr k (nrm k q) := by
  obtain ⟨d, a, b, i⟩ := q
  obtain ⟨r1, r2⟩ := rt_k d a b i k hk hg
  obtain ⟨g1, g2, g3⟩ := st_k _ k hk h48 r1
  rw [r2, hq] at g2
  exact g2
theorem str_src {k : Nat} (hk : k < 75) (h48 : 48 ≤ k) (q : jP4) (hn : nrm k q = q) {e p : Nat} (he : e < 4) (hp : p < 3) (hs : srcK k p = -1 - (e : Int)) : p4g (pStr k q) p = p4g q e := by
  rw [← cSd_str k hk h48 q hn]
  have : p = 0 ∨ p = 1 ∨ p = 2 := by omega
  rcases this with rfl | rfl | rfl
  · show cFr (srcK k 0) q = _
    unfold cFr; rw [if_pos (by omega), show (-1 - srcK k 0).toNat = e by omega]
  · show cFr (srcK k 1) q = _
    unfold cFr; rw [if_pos (by omega), show (-1 - srcK k 1).toNat = e by omega]
  · show cFr (srcK k 2) q = _
    unfold cFr; rw [if_pos (by omega), show (-1 - srcK k 2).toNat = e by omega]
theorem nrm_nrm (k : Nat) (q : jP4) : nrm k (nrm k q) = nrm k q := by
  unfold nrm
  simp only
  congr 1
  · split <;> rfl
  congr 1
  · split <;> rfl
  congr 1
  · split <;> rfl
  · split <;> rfl
theorem nrm_g {k : Nat} {q : jP4} {e : Nat} (he : e < 4) (h : pHas k e = true) : p4g (nrm k q) e = p4g q e := by
  have : e = 0 ∨ e = 1 ∨ e = 2 ∨ e = 3 := by omega
  rcases this with rfl | rfl | rfl | rfl
  · show (if pHas k 0 = true then q.1 else 0) = _; rw [if_pos h]; rfl
  · show (if pHas k 1 = true then q.2.1 else 0) = _; rw [if_pos h]; rfl
  · show (if pHas k 2 = true then q.2.2.1 else 0) = _; rw [if_pos h]; rfl
  · show (if pHas k 3 = true then q.2.2.2 else 0) = _; rw [if_pos h]; rfl
/-- the component's parts and the twin's are the same where the word is accepted -/
theorem acc_same {k : Nat} (hk : k < 75) (h48 : 48 ≤ k) {w : Int} (hP : (pGood k (Pcs k (pPt (pLK k) w)) = true ∧ pPut (pLK k) (pStr k (nrm k (Pcs k (pPt (pLK k) w)))) = w) ∨ (pGood k (pPt (pLK k) w) = true ∧ pPut (pLK k) (pStr k (nrm k (pPt (pLK k) w))) = w)) : sameP k (Pcs k (pPt (pLK k) w)) (pPt (pLK k) w) := by
  intro e he hh
  by_cases e3 : e = 3
  · subst e3
    have t0 := (tab_sk k hk h48 0 (by omega)).1
    have t1 := (tab_sk k hk h48 1 (by omega)).1
    have t2 := (tab_sk k hk h48 2 (by omega)).1
    rw [Pcs_g k _ hk h48 3 (by omega), if_neg (by omega), if_neg (by omega), if_neg (by omega)]
    rfl
  have hs := (tab_sk k hk h48 e (by omega)).2 hh
  rcases hP with ⟨hg, hq⟩ | ⟨hg, hq⟩
  · have hp := acc_parts hk h48 hg hq
    have h1 := str_src hk h48 (nrm k (Pcs k (pPt (pLK k) w))) (nrm_nrm _ _) he (by omega : e < 3) hs
    rw [← hp, nrm_g he hh] at h1
    exact h1.symm
  · have hp := acc_parts hk h48 hg hq
    have key : ∀ p : Nat, p < 3 → srcK k p = -1 - (e : Int) → p4g (pPt (pLK k) w) p = p4g (pPt (pLK k) w) e := by
      intro p hp3 hsp
      have h1 := str_src hk h48 (nrm k (pPt (pLK k) w)) (nrm_nrm _ _) he hp3 hsp
      rw [← hp, nrm_g he hh] at h1
      exact h1
    rw [Pcs_g k _ hk h48 e he]
    by_cases c2 : srcK k 2 = -1 - (e : Int)
    · rw [if_pos c2]; exact key 2 (by omega) c2
    rw [if_neg c2]
    by_cases c1 : srcK k 1 = -1 - (e : Int)
    · rw [if_pos c1]; exact key 1 (by omega) c1
    rw [if_neg c1]
    by_cases c0 : srcK k 0 = -1 - (e : Int)
    · rw [if_pos c0]; exact key 0 (by omega) c0
    · exfalso
      have : e = 0 ∨ e = 1 ∨ e = 2 := by omega
      rcases this with rfl | rfl | rfl
      · exact c0 hs
      · exact c1 hs
      · exact c2 hs
/-- whether a short kind stands for a long word of parts q -/
def accK (k : Nat) (w : Int) (q : jP4) : Prop := pGood k q = true ∧ pPut (pLK k) (pStr k (nrm k q)) = w
theorem acc_iff {k : Nat} (hk : k < 75) (h48 : 48 ≤ k) {w : Int} : accK k w (Pcs k (pPt (pLK k) w)) ↔ accK k w (pPt (pLK k) w) := by
  constructor
  · intro h
    have hs := acc_same hk h48 (w := w) (.inl h)
    exact ⟨(hs.good hk).mp h.1, by rw [← hs.nr]; exact h.2⟩
  · intro h
    have hs := acc_same hk h48 (w := w) (.inr h)
    exact ⟨(hs.good hk).mpr h.1, by rw [hs.nr]; exact h.2⟩
end jShrunk
