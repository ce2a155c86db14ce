/-! a pass, pure, and what changes by it -/
set_option maxRecDepth 100000
section jPass
variable {s t u w : jS} {a k m o p v l n x y c j X f z B i q : Int} {d e : Int → Int → Int}
/-- one value more -/
def dU (d : Int → Int → Int) (f i z : Int) : Int → Int → Int := fun g k => if g = f ∧ k = i then z else d g k
theorem dU_at : dU d f i z f i = z := if_pos ⟨rfl, rfl⟩
theorem dU_no (h : ¬ (c = f ∧ k = i)) : dU d f i z c k = d c k := if_neg h
/-- which become smaller; which are too small -/
abbrev psK (d : Int → Int → Int) (k : Int) : Prop := mvK d k ∧ d 16 k = 0 ∧ lstK d k < d 15 k
abbrev tgK (d : Int → Int → Int) (k : Int) : Prop := mvK d k ∧ d 15 k < lstK d k
/-- after i of them -/
def psI (d : Int → Int → Int) (i : Int) : Int → Int → Int := fun f k => if f = 15 ∧ 0 ≤ k ∧ k < i ∧ psK d k then lstK d k else d f k
def cnK (d : Int → Int → Int) : Nat → Int
  | 0 => 0
  | n + 1 => cnK d n + if psK d n then 1 else 0
/-- an undoing, after i of them -/
def udI (d : Int → Int → Int) (i : Int) : Int → Int → Int := fun f k => if 0 ≤ k ∧ k < i ∧ tgK d k then (if f = 15 then grK d k else if f = 16 then 1 else d f k) else d f k
def cuK (d : Int → Int → Int) : Nat → Int
  | 0 => 0
  | n + 1 => cuK d n + if tgK d n then 1 else 0
theorem cnK_lo : ∀ n : Nat, 0 ≤ cnK d n ∧ cnK d n ≤ n
  | 0 => ⟨Int.le_refl _, Int.le_refl _⟩
  | n + 1 => by
    have := cnK_lo n
    show 0 ≤ cnK d n + _ ∧ cnK d n + _ ≤ _
    split <;> omega
theorem cuK_lo : ∀ n : Nat, 0 ≤ cuK d n ∧ cuK d n ≤ n
  | 0 => ⟨Int.le_refl _, Int.le_refl _⟩
  | n + 1 => by
    have := cuK_lo n
    show 0 ≤ cuK d n + _ ∧ cuK d n + _ ≤ _
    split <;> omega
theorem cnK_0 : ∀ n : Nat, cnK d n = 0 → ∀ k : Int, 0 ≤ k → k < n → ¬ psK d k
  | 0, _, k, k0, k1, _ => by omega
  | n + 1, h, k, k0, k1, hk => by
    have h' : cnK d n + (if psK d n then 1 else 0) = 0 := h
    have := cnK_lo (d := d) n
    by_cases c : k = n
    · rw [← c, if_pos hk] at h'; omega
    · refine cnK_0 n ?_ k k0 (by omega) hk
      split at h' <;> omega
theorem cuK_0 : ∀ n : Nat, cuK d n = 0 → ∀ k : Int, 0 ≤ k → k < n → ¬ tgK d k
  | 0, _, k, k0, k1, _ => by omega
  | n + 1, h, k, k0, k1, hk => by
    have h' : cuK d n + (if tgK d n then 1 else 0) = 0 := h
    have := cuK_lo (d := d) n
    by_cases c : k = n
    · rw [← c, if_pos hk] at h'; omega
    · refine cuK_0 n ?_ k k0 (by omega) hk
      split at h' <;> omega
theorem psI_0 : psI d 0 = d := by
  funext f k; unfold psI; rw [if_neg (by omega)]
theorem udI_0 : udI d 0 = d := by
  funext f k; unfold udI; rw [if_neg (by omega)]
theorem psI_s (i0 : 0 ≤ i) : psI d (i + 1) = if psK d i then dU (psI d i) 15 i (lstK d i) else psI d i := by
  by_cases c : psK d i
  · rw [if_pos c]
    funext f k; unfold dU psI
    by_cases ck : f = 15 ∧ k = i
    · rw [if_pos ck, ck.2, if_pos ⟨ck.1, i0, by omega, c⟩]
    · rw [if_neg ck]
      by_cases h : f = 15 ∧ 0 ≤ k ∧ k < i ∧ psK d k
      · rw [if_pos h, if_pos ⟨h.1, h.2.1, by omega, h.2.2.2⟩]
      · rw [if_neg h, if_neg (fun q => h ⟨q.1, q.2.1, by omega, q.2.2.2⟩)]
  · rw [if_neg c]
    funext f k; unfold psI
    by_cases h : f = 15 ∧ 0 ≤ k ∧ k < i ∧ psK d k
    · rw [if_pos h, if_pos ⟨h.1, h.2.1, by omega, h.2.2.2⟩]
    · rw [if_neg h, if_neg (fun q => by
        by_cases ck : k = i
        · rw [ck] at q; exact c q.2.2.2
        · exact h ⟨q.1, q.2.1, by omega, q.2.2.2⟩)]
theorem udI_s (i0 : 0 ≤ i) : udI d (i + 1) = if tgK d i then dU (dU (udI d i) 15 i (grK d i)) 16 i 1 else udI d i := by
  by_cases c : tgK d i
  · rw [if_pos c]
    funext f k; unfold dU udI
    by_cases ck : k = i
    · rw [ck, if_pos (show 0 ≤ i ∧ i < i + 1 ∧ tgK d i from ⟨i0, by omega, c⟩), if_neg (show ¬ (0 ≤ i ∧ i < i ∧ tgK d i) by omega)]
      by_cases c6 : f = 16
      · rw [c6]; simp
      · by_cases c5 : f = 15
        · rw [c5]; simp
        · simp [c5, c6]
    · rw [if_neg (show ¬ (f = 16 ∧ k = i) from fun q => ck q.2), if_neg (show ¬ (f = 15 ∧ k = i) from fun q => ck q.2)]
      by_cases h : 0 ≤ k ∧ k < i ∧ tgK d k
      · rw [if_pos h, if_pos (show 0 ≤ k ∧ k < i + 1 ∧ tgK d k from ⟨h.1, by omega, h.2.2⟩)]
      · rw [if_neg h, if_neg (fun q => h ⟨q.1, by omega, q.2.2⟩)]
  · rw [if_neg c]
    funext f k; unfold udI
    by_cases h : 0 ≤ k ∧ k < i ∧ tgK d k
    · rw [if_pos h, if_pos (show 0 ≤ k ∧ k < i + 1 ∧ tgK d k from ⟨h.1, by omega, h.2.2⟩)]
    · rw [if_neg h, if_neg (fun q => by
        by_cases ck : k = i
        · rw [ck] at q; exact c q.2.2
        · exact h ⟨q.1, by omega, q.2.2⟩)]
/-- a size, or that it is fixed, is set: the component -/
theorem cLs.set (h : cLs s B e) (i0 : 0 ≤ i) (i1 : i < e 0 1) (hm : mvK e i) (hj : j = 2 ∨ j = 3) : cLs (jp s (kOf (e 5 i)) (poK s B i) j z) B (dU e (13 + j) i z) := by
  obtain ⟨h1, h2, h3, h4, h5, h6, h7, h8, h9⟩ := h
  obtain ⟨u, U⟩ : ∃ u, u = jp s (kOf (e 5 i)) (poK s B i) j z := ⟨_, rfl⟩
  obtain ⟨F, P, K, N, n1⟩ := jpF U
  have hk := hm.kk
  have D : ∀ f k, ¬ (f = 15 ∨ f = 16) → dU e (13 + j) i z f k = e f k := fun f k hf => dU_no (by omega)
  have eK : ∀ k, poK u B k = poK s B k := fun k => F _ _ _ (by omega)
  have eP : ∀ k, poP u B k = poP s B k := fun k => F _ _ _ (by omega)
  have eL : ∀ k, poL u B k = poL s B k := fun k => F _ _ _ (by omega)
  rw [← U]
  refine ⟨by rw [n1, K, N]; exact h1, ?_, fun o o0 o1 => ?_, fun p p0 p1 => ?_, fun k k0 k1 => ?_, fun l l0 l1 => ?_, fun p q p0 p1 q0 q1 => ?_, fun p q p0 p1 q0 q1 => ?_, fun p q p0 p1 q0 q1 => ?_⟩
  · rw [F _ _ _ (by omega), F _ _ _ (by omega), F _ _ _ (by omega), F _ _ _ (by omega), D _ _ (by omega), D _ _ (by omega), D _ _ (by omega), D _ _ (by omega)]; exact h2
  · rw [F _ _ _ (by omega), D _ _ (by omega)]; exact h3 o o0 o1
  · rw [D _ _ (by omega)] at p1
    have := h4 p p0 p1
    unfold cPt at this ⊢
    rw [eP, eK, eK, K, n1, F _ _ _ (by omega), F _ _ _ (by omega), F _ _ _ (by omega), F _ _ _ (by omega), F _ _ _ (by omega), D 1 _ (by omega), D 2 _ (by omega), D 3 _ (by omega), D 4 _ (by omega)]
    exact this
  · rw [D _ _ (by omega)] at k1
    have kk := kOf_c (f := e 5 k)
    obtain ⟨q1, ⟨q2, q2'⟩, q3, q4, q5, q6, q7, q8⟩ := h5 k k0 k1
    have nd := h8 k i k0 k1 i0 i1
    unfold cPc pcX mvK
    unfold pcX at q2 q2'
    rw [eK, eK, K, n1, D 5 _ (by omega), D 6 _ (by omega), D 7 _ (by omega), D 8 _ (by omega), D 9 _ (by omega), D 10 _ (by omega), D 11 _ (by omega), D 4 _ (by omega), eP, eL]
    refine ⟨q1, ⟨by rw [F _ _ _ (by omega)]; exact q2, by rw [F _ _ _ (by omega)]; exact q2'⟩, fun z => by rw [F _ _ _ (by omega)]; exact q3 z, fun z => by rw [F _ _ _ (by omega), F _ _ _ (by omega)]; exact q4 z, fun z => ?_, fun z => by rw [F _ _ _ (by omega)]; exact q6 z, fun z => by rw [F _ _ _ (by omega), F _ _ _ (by omega)]; exact q7 z, fun z => by rw [F _ _ _ (by omega)]; exact q8 z⟩
    obtain ⟨r0, r1, r2, r3⟩ := q5 z
    refine ⟨by rw [F _ _ _ (by omega)]; exact r0, by rw [F _ _ _ (by omega)]; exact r1, ?_, ?_⟩
    · by_cases c : k = i ∧ j = 2
      · obtain ⟨rfl, rfl⟩ := c
        rw [P]; exact dU_at.symm
      · rw [F _ _ _ (by omega), dU_no (by omega)]; exact r2
    · by_cases c : k = i ∧ j = 3
      · obtain ⟨rfl, rfl⟩ := c
        rw [P]; exact dU_at.symm
      · rw [F _ _ _ (by omega), dU_no (by omega)]; exact r3
  · rw [D _ _ (by omega)] at l1
    have := h6 l l0 l1
    unfold cLb at this ⊢
    rw [eL, eK, K, n1, F _ _ _ (by omega), F _ _ _ (by omega), D 12 _ (by omega), D 13 _ (by omega)]
    exact this
  · rw [D _ _ (by omega)] at p1 q1
    rw [eP, eP]; exact h7 p q p0 p1 q0 q1
  · rw [D _ _ (by omega)] at p1 q1
    rw [eK, eK]; exact h8 p q p0 p1 q0 q1
  · rw [D _ _ (by omega)] at p1 q1
    rw [eL, eL]; exact h9 p q p0 p1 q0 q1
/-- the twin -/
theorem tLs.set (h : tLs t X e) (i0 : 0 ≤ i) (i1 : i < e 0 1) (hm : mvK e i) : tLs (jp t 1000 (X + 13) i z) X (dU e 15 i z) ∧ tLs (jp t 1002 (X + 19) i z) X (dU e 16 i z) := by
  obtain ⟨h1, h2, h3, h4, h5, h6, h7⟩ := h
  constructor
  · have D : ∀ f k, ¬ f = 15 → dU e 15 i z f k = e f k := fun f k hf => dU_no (by omega)
    refine ⟨?_, fun o o0 o1 => ?_, fun p p0 p1 => ?_, fun p p0 p1 => ?_, fun k k0 k1 => ?_, fun k k0 k1 hk => ?_, fun l l0 l1 => ?_⟩
    · simp only [D _ _ (show ¬ (0 : Int) = 15 by decide)]
      rw [jf_neg (by omega), jf_neg (by omega), jf_neg (by omega), jf_neg (by omega)]; exact h1
    · rw [jf_neg (by omega), D _ _ (by decide)]; exact h2 o o0 o1
    · rw [D _ _ (by decide)] at p1
      rw [jf_neg (by omega), jf_neg (by omega), D _ _ (by decide), D _ _ (by decide)]; exact h3 p p0 p1
    · rw [jf_neg (by omega)]; exact h4 p p0 p1
    · rw [D _ _ (by decide)] at k1
      obtain ⟨q1, q2, q3, q4, q5, q6⟩ := h5 k k0 k1
      unfold mvK at hm ⊢
      have R : ∀ c a, ¬ (c = 1000 ∧ a = X + 13) → jf (jp t 1000 (X + 13) i z) c a k = jf t c a k := fun c a hc => jf_neg (fun q => hc ⟨q.1, q.2.1⟩)
      rw [D 5 _ (by decide), D 6 _ (by decide), D 7 _ (by decide), D 8 _ (by decide), D 9 _ (by decide), D 10 _ (by decide), D 11 _ (by decide), D 16 _ (by decide), R 1000 (X + 11) (by omega), R 1000 (X + 12) (by omega), R 1000 (X + 14) (by omega), R 1000 (X + 15) (by omega), R 1000 (X + 16) (by omega), R 1000 (X + 17) (by omega), R 1002 (X + 18) (by omega), R 1002 (X + 19) (by omega)]
      refine ⟨q1, fun z0 => ?_, fun z0 => ?_, q4, q5, q6⟩
      · rw [jf_neg (fun q => by rw [q.2.2] at z0; omega)]; exact q2 z0
      · by_cases c : k = i
        · rw [c, dU_at]; exact jf_pos ⟨rfl, rfl, rfl⟩
        · rw [jf_neg (by omega), dU_no (by omega)]; exact q3 z0
    · unfold mvK at hk
      rw [D _ _ (by decide), D _ _ (by decide)] at hk
      rw [jf_neg (by omega)]; exact h6 k k0 k1 hk
    · rw [D _ _ (by decide)] at l1
      rw [jf_neg (by omega), jf_neg (by omega), D _ _ (by decide), D _ _ (by decide)]; exact h7 l l0 l1
  · have D : ∀ f k, ¬ f = 16 → dU e 16 i z f k = e f k := fun f k hf => dU_no (by omega)
    refine ⟨?_, fun o o0 o1 => ?_, fun p p0 p1 => ?_, fun p p0 p1 => ?_, fun k k0 k1 => ?_, fun k k0 k1 hk => ?_, fun l l0 l1 => ?_⟩
    · simp only [D _ _ (show ¬ (0 : Int) = 16 by decide)]
      rw [jf_neg (by omega), jf_neg (by omega), jf_neg (by omega), jf_neg (by omega)]; exact h1
    · rw [jf_neg (by omega), D _ _ (by decide)]; exact h2 o o0 o1
    · rw [D _ _ (by decide)] at p1
      rw [jf_neg (by omega), jf_neg (by omega), D _ _ (by decide), D _ _ (by decide)]; exact h3 p p0 p1
    · rw [jf_neg (by omega)]; exact h4 p p0 p1
    · rw [D _ _ (by decide)] at k1
      obtain ⟨q1, q2, q3, q4, q5, q6⟩ := h5 k k0 k1
      unfold mvK at hm ⊢
      have R : ∀ c a, ¬ (c = 1002 ∧ a = X + 19) → jf (jp t 1002 (X + 19) i z) c a k = jf t c a k := fun c a hc => jf_neg (fun q => hc ⟨q.1, q.2.1⟩)
      rw [D 5 _ (by decide), D 6 _ (by decide), D 7 _ (by decide), D 8 _ (by decide), D 9 _ (by decide), D 10 _ (by decide), D 11 _ (by decide), D 15 _ (by decide), R 1000 (X + 11) (by omega), R 1000 (X + 12) (by omega), R 1000 (X + 13) (by omega), R 1000 (X + 14) (by omega), R 1000 (X + 15) (by omega), R 1000 (X + 16) (by omega), R 1000 (X + 17) (by omega), R 1002 (X + 18) (by omega)]
      refine ⟨q1, q2, q3, q4, q5, fun z0 => ?_⟩
      obtain ⟨r1, r2, r3, r4⟩ := q6 z0
      refine ⟨r1, r2, r3, ?_⟩
      by_cases c : k = i
      · rw [c, dU_at]; exact jf_pos ⟨rfl, rfl, rfl⟩
      · rw [jf_neg (by omega), dU_no (by omega)]; exact r4
    · unfold mvK at hk hm
      rw [D _ _ (by decide), D _ _ (by decide)] at hk
      have hki : ¬ k = i := fun q => hk (by rw [q]; exact ⟨i1, hm⟩)
      rw [jf_neg (by omega)]; exact h6 k k0 k1 hk
    · rw [D _ _ (by decide)] at l1
      rw [jf_neg (by omega), jf_neg (by omega), D _ _ (by decide), D _ _ (by decide)]; exact h7 l l0 l1
end jPass
