/-! texts of units: words, as both sides tell them -/
section jLex
variable {g : Int → Int} {n p q r k a c : Int} {P Q : Int → Prop}
def bt (g : Int → Int) (n k : Int) : Int := if k < n then g k else -1
theorem bt_in (h : k < n) : bt g n k = g k := if_pos h
theorem bt_out (h : n ≤ k) : bt g n k = -1 := if_neg (by omega)
theorem bt_lo (hb : byG g n) (h : 0 ≤ k) : -1 ≤ bt g n k ∧ bt g n k < 256 ∧ (bt g n k = -1 ↔ n ≤ k) := by
  by_cases c : k < n
  · rw [bt_in c]; have := hb k h c; omega
  · rw [bt_out (by omega)]; omega
def isDg (c : Int) : Prop := 48 ≤ c ∧ c ≤ 57
def isBg (c : Int) : Prop := (97 ≤ c ∧ c ≤ 122) ∨ (65 ≤ c ∧ c ≤ 90) ∨ c = 95 ∨ c = 46
def isIn (c : Int) : Prop := isBg c ∨ isDg c ∨ c = 36
def hxO (c : Int) : Int := if 48 ≤ c ∧ c ≤ 57 then c - 48 else if 97 ≤ c ∧ c ≤ 102 then c - 87 else if 65 ≤ c ∧ c ≤ 70 then c - 55 else 16
/-- the first place from p on where P does not hold -/
def upTo (g : Int → Int) (n : Int) (P : Int → Prop) (p q : Int) : Prop := p ≤ q ∧ (∀ k, p ≤ k → k < q → P (bt g n k)) ∧ ¬ P (bt g n q)
theorem upTo_one (h : upTo g n P p q) (h' : upTo g n P p r) : q = r := by
  rcases Int.lt_trichotomy q r with z | z | z
  · exact absurd (h'.2.1 q h.1 z) h.2.2
  · exact z
  · exact absurd (h.2.1 r h'.1 z) h'.2.2
noncomputable def up (g : Int → Int) (n : Int) (P : Int → Prop) (p : Int) : Int := @dite _ (∃ q, upTo g n P p q) (Classical.propDecidable _) (fun h => Classical.choose h) (fun _ => p)
theorem up_eq (h : upTo g n P p q) : up g n P p = q := by
  unfold up; rw [dif_pos ⟨q, h⟩]; exact upTo_one (Classical.choose_spec (p := fun q => upTo g n P p q) ⟨q, h⟩) h
theorem up_ex (hP : ¬ P (-1)) (p0 : p ≤ n) : ∃ q, upTo g n P p q ∧ q ≤ n := by
  have key : ∀ (m : Nat) (p : Int), p ≤ n → n - p = m → ∃ q, upTo g n P p q ∧ q ≤ n := by
    intro m
    induction m with
    | zero => intro p h1 h2; exact ⟨p, ⟨by omega, fun k _ _ => by omega, by rw [bt_out (by omega)]; exact hP⟩, h1⟩
    | succ m ih =>
      intro p h1 h2
      by_cases c : P (bt g n p)
      · obtain ⟨q, ⟨q1, q2, q3⟩, q4⟩ := ih (p + 1) (by omega) (by omega)
        refine ⟨q, ⟨by omega, fun k k0 k1 => ?_, q3⟩, q4⟩
        by_cases e : k = p
        · subst e; exact c
        · exact q2 k (by omega) k1
      · exact ⟨p, ⟨by omega, fun k _ _ => by omega, c⟩, h1⟩
  exact key (n - p).toNat p p0 (by omega)
theorem up_to (hP : ¬ P (-1)) (p0 : p ≤ n) : upTo g n P p (up g n P p) ∧ up g n P p ≤ n := by
  obtain ⟨q, h1, h2⟩ := up_ex (g := g) hP p0
  rw [up_eq h1]; exact ⟨h1, h2⟩
def spP (c : Int) : Prop := c = 32 ∨ c = 9
def cmP (c : Int) : Prop := ¬ c = 10 ∧ ¬ c = -1 ∧ (c = 9 ∨ 32 ≤ c ∧ c ≤ 126)
/-- the value of digits -/
def dgVl (g : Int → Int) (n f b : Int) : Nat → Int
  | 0 => 0
  | m + 1 => if 4294967295 < dgVl g n f b m then dgVl g n f b m else dgVl g n f b m * b + hxO (bt g n (f + m))
/-- a byte within signs: may it be, its value, what is behind it -/
def inOK (g : Int → Int) (n k a : Int) : Prop := if bt g n k = 92 then (bt g n (k + 1) = 110 ∨ bt g n (k + 1) = 116 ∨ bt g n (k + 1) = 48 ∨ bt g n (k + 1) = 92 ∨ bt g n (k + 1) = 39 ∨ bt g n (k + 1) = 34) else 32 ≤ bt g n k ∧ bt g n k ≤ 126 ∧ ¬ bt g n k = a
def inV (g : Int → Int) (n k : Int) : Int := if bt g n k = 92 then (if bt g n (k + 1) = 110 then 10 else if bt g n (k + 1) = 116 then 9 else if bt g n (k + 1) = 48 then 0 else bt g n (k + 1)) else bt g n k
def inT (g : Int → Int) (n k : Int) : Int := if bt g n k = 92 then k + 2 else k + 1
/-- the bytes of a string -/
def stQ (g : Int → Int) (n r : Int) : Nat → Int
  | 0 => r + 1
  | m + 1 => inT g n (stQ g n r m)
def stGn (g : Int → Int) (n r : Int) (m : Nat) : Prop := ¬ bt g n (stQ g n r m) = 34 ∧ inOK g n (stQ g n r m) 34
def stEnd (g : Int → Int) (n r : Int) (m : Nat) : Prop := (∀ j : Nat, j < m → stGn g n r j) ∧ ¬ stGn g n r m
theorem stEnd_one {m m' : Nat} (h : stEnd g n r m) (h' : stEnd g n r m') : m = m' := by
  rcases Nat.lt_trichotomy m m' with z | z | z
  · exact absurd (h'.1 m z) h.2
  · exact z
  · exact absurd (h.1 m' z) h'.2
noncomputable def stM (g : Int → Int) (n r : Int) : Nat := @dite _ (∃ m, stEnd g n r m) (Classical.propDecidable _) (fun h => Classical.choose h) (fun _ => 0)
theorem stM_eq {m : Nat} (h : stEnd g n r m) : stM g n r = m := by
  unfold stM; rw [dif_pos ⟨m, h⟩]; exact stEnd_one (Classical.choose_spec (p := fun m => stEnd g n r m) ⟨m, h⟩) h
noncomputable def stB (g : Int → Int) (n r : Int) : List Int := (List.range (stM g n r)).map fun j => inV g n (stQ g n r j)
def nmO (g : Int → Int) (f t : Int) : List Int := (List.range (t - f).toNat).map fun j => g (f + (j : Nat))
def sgOK (c : Int) : Prop := c = 44 ∨ c = 40 ∨ c = 41 ∨ c = 58 ∨ c = 126 ∨ c = 37 ∨ c = 38 ∨ c = 42 ∨ c = 43 ∨ c = 45 ∨ c = 47 ∨ c = 94 ∨ c = 124
/-- a choice by what need not be decidable -/
noncomputable def cif {α : Type} (c : Prop) (a b : α) : α := @ite _ c (Classical.propDecidable c) a b
theorem cif_pos {α : Type} {c : Prop} {a b : α} (h : c) : cif c a b = a := by unfold cif; rw [if_pos h]
theorem cif_neg {α : Type} {c : Prop} {a b : α} (h : ¬ c) : cif c a b = b := by unfold cif; rw [if_neg h]
/-- a word: its kind (6: it can't be), value, place, what is behind it -/
abbrev wR4 : Type := Int × Int × Int × Int
noncomputable def wdG (g : Int → Int) (n r f b : Int) : wR4 :=
  if 4294967295 < dgVl g n f b (up g n (fun c => hxO c < b) f - f).toNat ∨ up g n (fun c => hxO c < b) f = f then (6, 3, r, 0) else (2, W32 (dgVl g n f b (up g n (fun c => hxO c < b) f - f).toNat), r, up g n (fun c => hxO c < b) f)
noncomputable def wdN (g : Int → Int) (n r : Int) : wR4 :=
  if bt g n r = 48 ∧ bt g n (r + 1) = 120 then wdG g n r (r + 2) 16
  else if bt g n r = 48 ∧ bt g n (r + 1) = 98 ∧ (bt g n (r + 2) = 48 ∨ bt g n (r + 2) = 49) then wdG g n r (r + 2) 2
  else cif ((bt g n (r + 1) = 98 ∨ bt g n (r + 1) = 102) ∧ ¬ isIn (bt g n (r + 2))) (3, 2 * (bt g n r - 48) + (if bt g n (r + 1) = 102 then 1 else 0), r, r + 2) (wdG g n r r 10)
noncomputable def wdC (g : Int → Int) (n r : Int) : wR4 := cif (inOK g n (r + 1) 39 ∧ bt g n (inT g n (r + 1)) = 39) (2, inV g n (r + 1), r, inT g n (r + 1) + 1) (6, 4, r, 0)
noncomputable def wdS (g : Int → Int) (n r : Int) : wR4 := if bt g n (stQ g n r (stM g n r)) = 34 then (4, 0, r, stQ g n r (stM g n r) + 1) else (6, 4, r, 0)
noncomputable def wdY (g : Int → Int) (n r : Int) : wR4 :=
  if (bt g n r = 60 ∨ bt g n r = 62) ∧ bt g n (r + 1) = bt g n r then (5, if bt g n r = 60 then 256 else 257, r, r + 2)
  else cif (sgOK (bt g n r)) (5, bt g n r, r, r + 1) (6, 1, r, 0)
noncomputable def wdI (g : Int → Int) (n r : Int) : wR4 :=
  if 16 < up g n isIn r - r then (6, 2, r, 0) else if up g n isIn r - r = 1 ∧ bt g n r = 46 then (7, 0, r, up g n isIn r) else (1, 0, r, up g n isIn r)
noncomputable def wd1 (g : Int → Int) (n r : Int) : wR4 :=
  if bt g n r = 10 ∨ bt g n r = -1 then (0, 0, r, r)
  else cif (isBg (bt g n r)) (wdI g n r) (cif (isDg (bt g n r)) (wdN g n r) (if bt g n r = 39 then wdC g n r else if bt g n r = 34 then wdS g n r else wdY g n r))
/-- the word behind a place -/
noncomputable def wd (g : Int → Int) (n p : Int) : wR4 :=
  if bt g n (up g n spP p) = 35 then
    (if bt g n (up g n cmP (up g n spP p)) = 10 ∨ bt g n (up g n cmP (up g n spP p)) = -1 then wd1 g n (up g n cmP (up g n spP p)) else (6, 1, up g n cmP (up g n spP p), 0))
  else wd1 g n (up g n spP p)
/-- registers by their names -/
def rgV (c v : Int) : Int := if c = 97 then (if v < 8 then 10 + v else -1) else if c = 115 then (if v < 2 then 8 + v else if v < 12 then 16 + v else -1) else if c = 116 then (if v < 3 then 5 + v else if v < 7 then 25 + v else -1) else if c = 120 then (if v < 32 then v else -1) else -1
noncomputable def rgN (l : List Int) : Int :=
  cif (l.length = 2 ∧ isDg (l.getD 1 0)) (rgV (l.getD 0 0) (l.getD 1 0 - 48)) (cif (l.length = 3 ∧ isDg (l.getD 1 0) ∧ isDg (l.getD 2 0) ∧ ¬ l.getD 1 0 = 48) (rgV (l.getD 0 0) (10 * (l.getD 1 0 - 48) + l.getD 2 0 - 48)) (-1))
noncomputable def rgO (l : List Int) : Int := if l = cS 182 then 0 else if l = cS 183 then 1 else if l = cS 184 then 2 else if l = cS 185 then 3 else if l = cS 186 then 4 else if l = cS 187 then 8 else rgN l
def mkO (l : List Int) : Int := if l = cS 188 then 1 else if l = cS 189 then 2 else if l = cS 190 then 3 else if l = cS 191 then 4 else 0
theorem bt_ne (hb : byG g n) (h0 : 0 ≤ k) (h : ¬ bt g n k = -1) : k < n := by
  have := (bt_lo hb h0).2.2; omega
theorem stQ_lo : ∀ m : Nat, r + 1 + m ≤ stQ g n r m
  | 0 => by show r + 1 + 0 ≤ r + 1; omega
  | m + 1 => by
    have := stQ_lo m
    show r + 1 + ((m + 1 : Nat) : Int) ≤ inT g n (stQ g n r m)
    unfold inT; split <;> omega
/-- what goes on lies within the text -/
theorem inOK_in (hb : byG g n) (h0 : 0 ≤ k) (h : inOK g n k a) : inT g n k ≤ n ∧ k < n ∧ 0 ≤ inV g n k ∧ inV g n k ≤ 126 := by
  unfold inOK at h; unfold inT inV
  by_cases c : bt g n k = 92
  · rw [if_pos c] at h ⊢; rw [if_pos c]
    have h1 := bt_ne hb h0 (by omega)
    have h2 := bt_ne (k := k + 1) hb (by omega) (by omega)
    refine ⟨by omega, by omega, ?_⟩
    split; omega
    split; omega
    split; omega
    omega
  · rw [if_neg c] at h ⊢; rw [if_neg c]
    have h1 := bt_ne hb h0 (by omega)
    omega
theorem stEnd_ex (hb : byG g n) (r0 : 0 ≤ r) : ∃ m, stEnd g n r m := by
  have key : ∀ (j m : Nat), (∀ i : Nat, i < m → stGn g n r i) → (n + 1 - stQ g n r m).toNat ≤ j → ∃ m, stEnd g n r m := by
    intro j
    induction j with
    | zero =>
      intro m h hj
      refine ⟨m, h, fun z => ?_⟩
      have lo := stQ_lo (g := g) (n := n) (r := r) m
      have := inOK_in hb (by omega) z.2
      omega
    | succ j ih =>
      intro m h hj
      by_cases c : stGn g n r m
      · refine ih (m + 1) (fun i hi => ?_) ?_
        · by_cases e : i = m
          · rw [e]; exact c
          · exact h i (by omega)
        · show (n + 1 - inT g n (stQ g n r m)).toNat ≤ j
          have : stQ g n r m + 1 ≤ inT g n (stQ g n r m) := by unfold inT; split <;> omega
          omega
      · exact ⟨m, h, c⟩
  exact key _ 0 (fun i hi => by omega) (Nat.le_refl _)
theorem stM_end (hb : byG g n) (r0 : 0 ≤ r) : stEnd g n r (stM g n r) := by
  obtain ⟨m, h⟩ := stEnd_ex hb r0 (r := r)
  rw [stM_eq h]; exact h
end jLex
