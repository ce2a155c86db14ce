/-! what a file of an object is: counters, strings, places of parts -/
section jWspec
variable {S R w : List Int} {p q k : Nat} {o : Int → Int → Int → Int} {P : Int → Bool} {x y n : Int}
/-- how many of the first n are such -/
def cnt (P : Int → Bool) : Nat → Int
  | 0 => 0
  | n + 1 => cnt P n + (if P n = true then 1 else 0)
def cn (P : Int → Bool) (x : Int) : Int := cnt P x.toNat
theorem cn_0 : cn P 0 = 0 := rfl
theorem cn_s (h : 0 ≤ x) : cn P (x + 1) = cn P x + (if P x = true then 1 else 0) := by
  unfold cn
  rw [show (x + 1).toNat = x.toNat + 1 by omega]
  show cnt P x.toNat + (if P (x.toNat : Int) = true then 1 else 0) = _
  rw [show (x.toNat : Int) = x by omega]
theorem cnt_lo (m : Nat) : 0 ≤ cnt P m ∧ cnt P m ≤ m := by
  induction m with
  | zero => exact ⟨Int.le_refl _, Int.le_refl _⟩
  | succ m ih =>
    show 0 ≤ cnt P m + _ ∧ cnt P m + _ ≤ _
    split <;> omega
theorem cn_lo (h : 0 ≤ x) : 0 ≤ cn P x ∧ cn P x ≤ x := by have := cnt_lo (P := P) x.toNat; unfold cn; omega
theorem cnt_le {a b : Nat} (h : a ≤ b) : cnt P a ≤ cnt P b ∧ cnt P b ≤ cnt P a + (b - a : Nat) := by
  induction b with
  | zero => have : a = 0 := by omega
            subst this; omega
  | succ b ih =>
    by_cases e : a = b + 1
    · subst e; omega
    · have := ih (by omega)
      show cnt P a ≤ cnt P b + _ ∧ cnt P b + _ ≤ _
      split <;> omega
theorem cn_le (h : 0 ≤ x) (g : x ≤ y) : cn P x ≤ cn P y ∧ cn P y ≤ cn P x + (y - x) := by have := cnt_le (P := P) (a := x.toNat) (b := y.toNat) (by omega); unfold cn; omega
theorem cn_lt (h : 0 ≤ x) (g : x < y) (e : P x = true) : cn P x < cn P y := by
  have h1 := cn_s (P := P) h
  rw [if_pos e] at h1
  have h2 := (cn_le (P := P) (x := x + 1) (y := y) (by omega) (by omega)).1
  omega
theorem cn_inj (hx : 0 ≤ x) (hy : 0 ≤ y) (ex : P x = true) (ey : P y = true) (e : cn P x = cn P y) : x = y := by
  rcases Int.lt_trichotomy x y with h | h | h
  · have := cn_lt hx h ex; omega
  · exact h
  · have := cn_lt hy h ey; omega
theorem cnt_hit (m : Nat) (i : Int) (h0 : 0 ≤ i) (h : i < cnt P m) : ∃ k : Nat, k < m ∧ P k = true ∧ cnt P k = i := by
  induction m with
  | zero => have : cnt P 0 = 0 := rfl
            omega
  | succ m ih =>
    by_cases e : i < cnt P m
    · obtain ⟨k, a, b, c⟩ := ih e
      exact ⟨k, by omega, b, c⟩
    · have h1 : cnt P (m + 1) = cnt P m + (if P m = true then 1 else 0) := rfl
      rw [h1] at h
      by_cases c : P m = true
      · rw [if_pos c] at h
        exact ⟨m, by omega, c, by omega⟩
      · rw [if_neg c] at h; omega
theorem cn_hit {N : Int} (hN : 0 ≤ N) (h0 : 0 ≤ n) (h : n < cn P N) : ∃ x, 0 ≤ x ∧ x < N ∧ P x = true ∧ cn P x = n := by
  obtain ⟨k, a, b, c⟩ := cnt_hit N.toNat n h0 h
  exact ⟨k, by omega, by omega, b, c⟩
/-- strings one behind the other, each with a 0 -/
def stAt (S w : List Int) (p : Nat) : Bool := (w ++ [0]).isPrefixOf (S.drop p)
def stGo (S w : List Int) : Nat → Nat → Nat
  | 0, p => p
  | n + 1, p => if stAt S w p then p else stGo S w n (p + 1)
def stP (S w : List Int) : Nat := stGo S w S.length 0
def stN (S w : List Int) : List Int := if stP S w < S.length then S else S ++ (w ++ [0])
theorem getD_drop (i : Nat) : (S.drop p).getD i 0 = S.getD (p + i) 0 := by simp only [List.getD_eq_getElem?_getD, List.getElem?_drop]
theorem stAt_iff : stAt S w p = true ↔ p + w.length < S.length ∧ S.getD (p + w.length) 0 = 0 ∧ ∀ k, k < w.length → S.getD (p + k) 0 = w.getD k 0 := by
  unfold stAt
  rw [List.isPrefixOf_iff_prefix]
  constructor
  · rintro ⟨t, ht⟩
    have hl := congrArg List.length ht
    simp only [List.length_append, List.length_cons, List.length_nil, List.length_drop] at hl
    have hg : ∀ i, S.getD (p + i) 0 = ((w ++ [0]) ++ t).getD i 0 := fun i => by rw [ht, getD_drop]
    refine ⟨by omega, ?_, fun k hk => ?_⟩
    · rw [hg, getD_app, if_pos (by simp), getD_app, if_neg (by omega), show w.length - w.length = 0 by omega]; rfl
    · rw [hg, getD_app, if_pos (by simp; omega), getD_app, if_pos hk]
  · rintro ⟨h1, h2, h3⟩
    rw [List.prefix_iff_eq_take]
    apply List.ext_getElem
    · simp only [List.length_append, List.length_cons, List.length_nil, List.length_take, List.length_drop]; omega
    · intro i a b
      simp only [List.length_append, List.length_cons, List.length_nil] at a
      have e1 : (w ++ [0]).getD i 0 = (w ++ [0])[i] := by simp [List.getD_eq_getElem?_getD, a]
      have e2 : (S.drop p).getD i 0 = (List.take (w ++ [0]).length (S.drop p))[i] := by
        rw [List.getElem_take]
        have : p + i < S.length := by omega
        simp [List.getD_eq_getElem?_getD, this]
      rw [← e1, ← e2, getD_drop, getD_app]
      by_cases c : i < w.length
      · rw [if_pos c, h3 i c]
      · rw [if_neg c, show i = w.length by omega, h2, show w.length - w.length = 0 by omega]; rfl
theorem stGo_spec (m : Nat) : ∀ p, (stGo S w m p < p + m ∧ stAt S w (stGo S w m p) = true ∨ stGo S w m p = p + m) ∧ (∀ q, p ≤ q → q < stGo S w m p → stAt S w q = false) := by
  induction m with
  | zero => intro p; exact ⟨.inr rfl, fun q a b => by have : stGo S w 0 p = p := rfl; omega⟩
  | succ m ih =>
    intro p
    show (((if stAt S w p then p else stGo S w m (p + 1)) < _ ∧ stAt S w (if stAt S w p then p else stGo S w m (p + 1)) = true ∨ (if stAt S w p then p else stGo S w m (p + 1)) = _) ∧ ∀ q, p ≤ q → q < (if stAt S w p then p else stGo S w m (p + 1)) → stAt S w q = false)
    by_cases c : stAt S w p = true
    · rw [if_pos c]
      exact ⟨.inl ⟨by omega, c⟩, fun q a b => by omega⟩
    · rw [if_neg c]
      obtain ⟨h1, h2⟩ := ih (p + 1)
      refine ⟨?_, fun q a b => ?_⟩
      · rcases h1 with ⟨a, b⟩ | a
        · exact .inl ⟨by omega, b⟩
        · exact .inr (by omega)
      · by_cases e : q = p
        · subst e; exact Bool.eq_false_iff.mpr c
        · exact h2 q (by omega) b
theorem stP_spec : (stP S w < S.length ∧ stAt S w (stP S w) = true ∨ stP S w = S.length) ∧ ∀ q, q < stP S w → stAt S w q = false := by
  obtain ⟨h1, h2⟩ := stGo_spec (S := S) (w := w) S.length 0
  unfold stP
  rw [Nat.zero_add] at h1
  exact ⟨h1, fun q a => h2 q (Nat.zero_le _) a⟩
theorem stP_le : stP S w ≤ S.length := by rcases stP_spec (S := S) (w := w) with ⟨h | h, -⟩ <;> omega
/-- the least place is that -/
theorem stP_eq (h : stAt S w p = true) (hq : ∀ q, q < p → stAt S w q = false) : stP S w = p := by
  obtain ⟨h1, h2⟩ := stP_spec (S := S) (w := w)
  have hp := (stAt_iff.mp h).1
  rcases Nat.lt_trichotomy (stP S w) p with g | g | g
  · rcases h1 with ⟨a, b⟩ | a
    · rw [hq _ g] at b; cases b
    · omega
  · exact g
  · rw [h2 p g] at h; cases h
theorem stP_no (hq : ∀ q, q < S.length → stAt S w q = false) : stP S w = S.length := by
  rcases stP_spec (S := S) (w := w) with ⟨⟨a, b⟩ | a, -⟩
  · rw [hq _ a] at b; cases b
  · exact a
theorem stN_pre : ∃ R, stN S w = S ++ R := by
  unfold stN; split
  · exact ⟨[], (List.append_nil _).symm⟩
  · exact ⟨_, rfl⟩
theorem stN_len : S.length ≤ (stN S w).length ∧ (stN S w).length ≤ S.length + w.length + 1 := by
  unfold stN; split
  · omega
  · simp only [List.length_append, List.length_cons, List.length_nil]; omega
/-- it ends with a 0 -/
def stG (S : List Int) : Prop := 0 < S.length ∧ S.getD (S.length - 1) 0 = 0
theorem stN_G (h : stG S) : stG (stN S w) := by
  unfold stN; split
  · exact h
  · refine ⟨by simp; omega, ?_⟩
    rw [getD_app, if_neg (by simp; done), getD_app, if_neg (by simp; done)]
    simp only [List.length_append, List.length_cons, List.length_nil]
    rw [show S.length + (w.length + (0 + 1)) - 1 - S.length - w.length = 0 by omega]; rfl
theorem stN_at (hS : stG S) (hw : ∀ k, k < w.length → w.getD k 0 ≠ 0) : stAt (stN S w) w (stP S w) = true ∧ ∀ q, q < stP S w → stAt (stN S w) w q = false := by
  obtain ⟨h1, h2⟩ := stP_spec (S := S) (w := w)
  unfold stN
  by_cases c : stP S w < S.length
  · rw [if_pos c]
    rcases h1 with h1 | h1
    · exact ⟨h1.2, h2⟩
    · omega
  · rw [if_neg c]
    have e : stP S w = S.length := by have := stP_le (S := S) (w := w); omega
    rw [e] at h2 ⊢
    constructor
    · rw [stAt_iff]
      refine ⟨by simp, ?_, fun k hk => ?_⟩
      · rw [getD_app, if_neg (by omega), getD_app, if_neg (by omega), show S.length + w.length - S.length - w.length = 0 by omega]; rfl
      · rw [getD_app, if_neg (by omega), getD_app, if_pos (by omega), show S.length + k - S.length = k by omega]
    · intro q hq
      refine Bool.eq_false_iff.mpr fun e => ?_
      obtain ⟨e1, e2, e3⟩ := stAt_iff.mp e
      by_cases c1 : q + w.length < S.length
      · have : stAt S w q = true := stAt_iff.mpr ⟨c1, by rw [getD_app, if_pos (by omega)] at e2; exact e2, fun k hk => by have := e3 k hk; rw [getD_app, if_pos (by omega)] at this; exact this⟩
        rw [h2 q hq] at this; cases this
      · have := e3 (S.length - 1 - q) (by omega)
        rw [show q + (S.length - 1 - q) = S.length - 1 by omega, getD_app, if_pos (by omega), hS.2] at this
        exact hw _ (by omega) this.symm
/-- what has a string has it at the same place when more is put behind -/
theorem stP_ext (h : stAt S w p = true) (hq : ∀ q, q < p → stAt S w q = false) : stP (S ++ R) w = p := by
  obtain ⟨h1, h2, h3⟩ := stAt_iff.mp h
  refine stP_eq (stAt_iff.mpr ⟨by rw [List.length_append]; omega, by rw [getD_app, if_pos h1]; exact h2, fun k hk => by rw [getD_app, if_pos (by omega)]; exact h3 k hk⟩) fun q hq' => ?_
  refine Bool.eq_false_iff.mpr fun e => ?_
  obtain ⟨e1, e2, e3⟩ := stAt_iff.mp e
  have : stAt S w q = true := stAt_iff.mpr ⟨by omega, by rw [getD_app, if_pos (by omega)] at e2; exact e2, fun k hk => by have := e3 k hk; rw [getD_app, if_pos (by omega)] at this; exact this⟩
  rw [hq q hq'] at this; cases this
/-- places -/
def rU (p a : Int) : Int := (p + a - 1) / a * a
theorem rU_lo {p a : Int} (ha : 0 < a) : p ≤ rU p a ∧ rU p a < p + a ∧ rU p a % a = 0 := by
  unfold rU
  have h1 := Int.emod_add_mul_ediv (p + a - 1) a
  have h2 := Int.emod_lt_of_pos (p + a - 1) ha
  have h3 := Int.emod_nonneg (p + a - 1) (Int.ne_of_gt ha)
  rw [Int.mul_comm] at h1
  refine ⟨by omega, by omega, Int.mul_emod_left _ _⟩
theorem rU_eq {p a : Int} (ha : 0 < a) (h : p % a = 0) : rU p a = p := by
  obtain ⟨h1, h2, h3⟩ := rU_lo (p := p) ha
  have e : (rU p a - p) % a = 0 := by
    rw [Int.sub_emod, h3, h]; simp
  have e2 := Int.emod_eq_of_lt (a := rU p a - p) (b := a) (by omega) (by omega)
  omega
/-- locals, turns, relocations of a section -/
def isLc (o : Int → Int → Int → Int) (x : Int) : Bool := decide (o 4 x 3 = 0)
def isNl (o : Int → Int → Int → Int) (x : Int) : Bool := decide (¬ o 4 x 3 = 0)
def ofS (o : Int → Int → Int → Int) (s x : Int) : Bool := decide (o 5 x 0 = s)
def nLc (o : Int → Int → Int → Int) : Int := cn (isLc o) (o 2 1 0)
def tn (o : Int → Int → Int → Int) (x : Int) : Int := if o 4 x 3 = 0 then cn (isLc o) x else nLc o + cn (isNl o) x
def nRl (o : Int → Int → Int → Int) (s : Int) : Int := cn (ofS o s) (o 2 2 0)
theorem cn_two (h : 0 ≤ x) : cn (isLc o) x + cn (isNl o) x = x := by
  have key : ∀ m : Nat, cnt (isLc o) m + cnt (isNl o) m = m := by
    intro m
    induction m with
    | zero => rfl
    | succ m ih =>
      show cnt (isLc o) m + (if isLc o m = true then 1 else 0) + (cnt (isNl o) m + (if isNl o m = true then 1 else 0)) = _
      unfold isLc isNl at *
      by_cases c : o 4 m 3 = 0
      · rw [if_pos (by simp [c]), if_neg (by simp [c])]; omega
      · rw [if_neg (by simp [c]), if_pos (by simp [c])]; omega
  have := key x.toNat
  unfold cn; omega
theorem tn_lo (h : 0 ≤ x) (g : x < o 2 1 0) : 0 ≤ tn o x ∧ tn o x < o 2 1 0 ∧ (o 4 x 3 = 0 ↔ tn o x < nLc o) := by
  have e := cn_two (o := o) (x := o 2 1 0) (by omega)
  have l1 := cn_lo (P := isLc o) h
  have l2 := cn_lo (P := isNl o) h
  unfold tn nLc at *
  by_cases c : o 4 x 3 = 0
  · rw [if_pos c]
    have := cn_lt (P := isLc o) h g (by unfold isLc; simp [c])
    have := cn_lo (P := isNl o) (x := o 2 1 0) (by omega)
    exact ⟨by omega, by omega, fun _ => by omega, fun _ => c⟩
  · rw [if_neg c]
    have := cn_lt (P := isNl o) h g (by unfold isNl; simp [c])
    have := cn_lo (P := isLc o) (x := o 2 1 0) (by omega)
    exact ⟨by omega, by omega, fun q => absurd q c, fun _ => by omega⟩
theorem tn_inj (hx : 0 ≤ x) (gx : x < o 2 1 0) (hy : 0 ≤ y) (gy : y < o 2 1 0) (e : tn o x = tn o y) : x = y := by
  obtain ⟨-, -, a⟩ := tn_lo hx gx
  obtain ⟨-, -, b⟩ := tn_lo hy gy
  rw [e] at a
  have ab := a.trans b.symm
  unfold tn at e
  by_cases c : o 4 x 3 = 0
  · rw [if_pos c, if_pos (ab.mp c)] at e
    exact cn_inj hx hy (by unfold isLc; simp [c]) (by unfold isLc; simp [ab.mp c]) e
  · have c' : ¬ o 4 y 3 = 0 := fun q => c (ab.mpr q)
    rw [if_neg c, if_neg c'] at e
    exact cn_inj (P := isNl o) hx hy (by unfold isNl; simp [c]) (by unfold isNl; simp [c']) (by omega)
theorem tn_hit (h0 : 0 ≤ n) (h : n < o 2 1 0) : ∃ x, 0 ≤ x ∧ x < o 2 1 0 ∧ tn o x = n := by
  have e := cn_two (o := o) (x := o 2 1 0) (by omega)
  by_cases c : n < nLc o
  · obtain ⟨x, a, b, d, f⟩ := cn_hit (P := isLc o) (N := o 2 1 0) (by omega) h0 c
    unfold isLc at d
    exact ⟨x, a, b, by unfold tn; rw [if_pos (by simpa using d)]; exact f⟩
  · obtain ⟨x, a, b, d, f⟩ := cn_hit (P := isNl o) (N := o 2 1 0) (n := n - nLc o) (by omega) (by omega) (by unfold nLc at *; omega)
    unfold isNl at d
    exact ⟨x, a, b, by unfold tn; rw [if_neg (by simpa using d)]; omega⟩
/-- which symbol has a turn -/
noncomputable def xt (o : Int → Int → Int → Int) (n : Int) : Int := @dite _ (∃ x, 0 ≤ x ∧ x < o 2 1 0 ∧ tn o x = n) (Classical.propDecidable _) (fun h => Classical.choose h) (fun _ => 0)
theorem xt_p (h0 : 0 ≤ n) (h : n < o 2 1 0) : 0 ≤ xt o n ∧ xt o n < o 2 1 0 ∧ tn o (xt o n) = n := by
  unfold xt
  rw [dif_pos (tn_hit h0 h)]
  exact Classical.choose_spec (tn_hit h0 h)
theorem xt_t (h : 0 ≤ x) (g : x < o 2 1 0) : xt o (tn o x) = x := by
  obtain ⟨a, b, -⟩ := tn_lo h g
  obtain ⟨c, d, e⟩ := xt_p a b
  exact tn_inj c d h g e
/-- a name as a list -/
def wdL (w : Int → Int) : List Int := (List.range (w 5).toNat).map fun i : Nat => w (6 + (i : Int))
theorem wdL_len {w : Int → Int} (h : 0 ≤ w 5) : ((wdL w).length : Int) = w 5 := by unfold wdL; simp; omega
theorem wdL_at {w : Int → Int} {i : Nat} (h : (i : Int) < w 5) : (wdL w).getD i 0 = w (6 + i) := by
  unfold wdL
  have : i < (w 5).toNat := by omega
  simp [List.getD_eq_getElem?_getD, this]
/-- the symbols' strings behind the first n turns -/
noncomputable def sSy (o : Int → Int → Int → Int) : Nat → List Int
  | 0 => [0]
  | n + 1 => stN (sSy o n) (wdL (o 4 (xt o n)))
theorem sSy_len (m : Nat) (hv : ∀ k, 0 ≤ k → k < o 2 1 0 → vSy (o 4 k)) (hm : (m : Int) ≤ o 2 1 0) : 1 ≤ (sSy o m).length ∧ (sSy o m).length ≤ 1 + 17 * m := by
  induction m with
  | zero => exact ⟨Nat.le_refl _, Nat.le_refl _⟩
  | succ m ih =>
    obtain ⟨h1, h2⟩ := ih (by omega)
    obtain ⟨a, b, -⟩ := xt_p (o := o) (n := m) (by omega) (by omega)
    have hv := hv _ a b
    have e := wdL_len (w := o 4 (xt o m)) (by have := hv.2.2.2.2.2.2.2.2.1; omega)
    have h16 := hv.2.2.2.2.2.2.2.2.2.1.2.1
    have := stN_len (S := sSy o m) (w := wdL (o 4 (xt o m)))
    show 1 ≤ (stN (sSy o m) (wdL (o 4 (xt o m)))).length ∧ (stN (sSy o m) (wdL (o 4 (xt o m)))).length ≤ _
    omega
noncomputable def sAt (o : Int → Int → Int → Int) (x : Int) : Int := stP (sSy o (tn o x).toNat) (wdL (o 4 x))
/-- names of parts -/
def tl : Nat → List Int
  | 0 => [46, 116, 101, 120, 116]
  | 1 => [46, 114, 111, 100, 97, 116, 97]
  | 2 => [46, 100, 97, 116, 97]
  | 3 => [46, 98, 115, 115]
  | 4 => [46, 115, 116, 97, 114, 116, 115]
  | 5 => [46, 114, 101, 108, 97, 46, 116, 101, 120, 116]
  | 6 => [46, 114, 101, 108, 97, 46, 114, 111, 100, 97, 116, 97]
  | 7 => [46, 114, 101, 108, 97, 46, 100, 97, 116, 97]
  | 8 => [46, 115, 121, 109, 116, 97, 98]
  | 9 => [46, 115, 116, 114, 116, 97, 98]
  | _ => [46, 115, 104, 115, 116, 114, 116, 97, 98]
/-- which parts are there -/
def th (o : Int → Int → Int → Int) (k : Nat) : Bool := if k = 4 then decide (0 < o 2 0 0) else if k = 5 then decide (0 < nRl o 0) else if k = 6 then decide (0 < nRl o 1) else if k = 7 then decide (0 < nRl o 2) else true
def sTl (T : Nat → Bool) : Nat → List Int
  | 0 => [0]
  | n + 1 => if T n then stN (sTl T n) (tl n) else sTl T n
/-- entries' numbers -/
def enT (T : Nat → Bool) : Nat → Int
  | 0 => 1
  | n + 1 => enT T n + (if T n then 1 else 0)
def en (o : Int → Int → Int → Int) (k : Nat) : Int := if th o k then enT (th o) k else 0
def alO (o : Int → Int → Int → Int) (k : Nat) : Int := if k < 3 then o 1 k 1 else if k = 4 then 2 else if 5 ≤ k ∧ k < 9 then 4 else 1
noncomputable def lnO (o : Int → Int → Int → Int) (k : Nat) : Int := if k < 3 then o 1 k 0 else if k = 3 then 0 else if k = 4 then 2 * o 2 0 0 else if k = 5 then 12 * nRl o 0 else if k = 6 then 12 * nRl o 1 else if k = 7 then 12 * nRl o 2 else if k = 8 then 16 + 16 * o 2 1 0 else if k = 9 then (sSy o (o 2 1 0).toNat).length else (sTl (th o) 11).length
/-- where parts end, and begin -/
noncomputable def qO (o : Int → Int → Int → Int) : Nat → Int
  | 0 => 52
  | n + 1 => (if th o n then rU (qO o n) (alO o n) else qO o n) + lnO o n
noncomputable def bO (o : Int → Int → Int → Int) (k : Nat) : Int := if th o k then rU (qO o k) (alO o k) else qO o k
noncomputable def tabO (o : Int → Int → Int → Int) : Int := rU (qO o 11) 4
noncomputable def totO (o : Int → Int → Int → Int) : Int := tabO o + 40 * enT (th o) 11
end jWspec
