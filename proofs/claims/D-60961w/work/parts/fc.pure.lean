/-! expressions, as both sides read them -/
section jPure
variable {g : Int → Int} {n : Int}
/-- where the next word is looked for, names so far, items counted, in all and of the operand -/
abbrev pS : Type := Int × List (List Int) × Int × Int
abbrev pI : Type := List (Int × Int)
/-- a fault and its place, or what is behind and the items -/
abbrev pR : Type := (Int × Int) ⊕ (pS × pI)
def bnO (o : Int) : Int := if o = 21 then 1 else if o = 20 then 2 else if o = 19 then 3 else if 16 < o then 4 else if o < 14 then 5 else 6
def srO' (v : Int) : Int := if v = 37 then 16 else if v = 38 then 19 else if v = 42 then 14 else if v = 43 then 12 else if v = 45 then 13 else if v = 47 then 15 else if v = 94 then 20 else if v = 124 then 21 else if v = 256 then 17 else if v = 257 then 18 else -1
def opO (W : wR4) : Int := if W.1 = 5 then srO' W.2.1 else -1
/-- a name's number, and the names with it -/
def nmIx : List (List Int) → List Int → Nat
  | [], _ => 0
  | a :: L, l => if a = l then 0 else nmIx L l + 1
def nmAdd (L : List (List Int)) (l : List Int) : List (List Int) := if nmIx L l < L.length then L else L ++ [l]
theorem nmIx_le (l : List Int) : ∀ L : List (List Int), nmIx L l ≤ L.length
  | [] => Nat.le_refl 0
  | a :: L => by
    have := nmIx_le l L
    show (if a = l then 0 else nmIx L l + 1) ≤ L.length + 1
    split <;> omega
abbrev gP : Type := (pS → Int → Int → pR) × (pI → pS → Int → Int → pR) × (pS → Int → pR) × (pS → Int → pR)
noncomputable def sglF (g : Int → Int) (n : Int) (R : gP) (st : pS) (deep : Int) : pR :=
  if (wd g n st.1).1 = 6 then .inl ((wd g n st.1).2.1, (wd g n st.1).2.2.1)
  else if ¬ ((wd g n st.1).1 = 5 ∧ ((wd g n st.1).2.1 = 45 ∨ (wd g n st.1).2.1 = 126 ∨ (wd g n st.1).2.1 = 40)) ∧ ¬ ((wd g n st.1).1 = 1 ∨ (wd g n st.1).1 = 7 ∨ (wd g n st.1).1 = 2 ∨ (wd g n st.1).1 = 3) then .inl (5, (wd g n st.1).2.2.1)
  else if ((wd g n st.1).1 = 1 ∨ (wd g n st.1).1 = 7) ∧ ¬ rgO (nmO g (wd g n st.1).2.2.1 (wd g n st.1).2.2.2) = -1 then .inl (6, (wd g n st.1).2.2.1)
  else if 20 < deep then .inl (7, (wd g n st.1).2.2.1)
  else if (wd g n st.1).1 = 5 ∧ (wd g n st.1).2.1 = 40 then R.2.2.2 ((wd g n st.1).2.2.2, st.2) (deep + 1)
  else if st.2.2.1 = 2000 ∨ st.2.2.2 = 60 then .inl (8, (wd g n st.1).2.2.1)
  else if (wd g n st.1).1 = 5 then
    match R.2.2.1 ((wd g n st.1).2.2.2, st.2.1, st.2.2.1 + 1, st.2.2.2 + 1) (deep + 1) with
    | .inl e => .inl e
    | .inr (s', L) => .inr (s', L ++ [(if (wd g n st.1).2.1 = 45 then 10 else 11, 0)])
  else if (wd g n st.1).1 = 1 then
    if nmIx st.2.1 (nmO g (wd g n st.1).2.2.1 (wd g n st.1).2.2.2) = 150 then .inl (8, (wd g n st.1).2.2.1)
    else .inr (((wd g n st.1).2.2.2, nmAdd st.2.1 (nmO g (wd g n st.1).2.2.1 (wd g n st.1).2.2.2), st.2.2.1 + 1, st.2.2.2 + 1), [(1, (nmIx st.2.1 (nmO g (wd g n st.1).2.2.1 (wd g n st.1).2.2.2) : Nat))])
  else .inr (((wd g n st.1).2.2.2, st.2.1, st.2.2.1 + 1, st.2.2.2 + 1), [if (wd g n st.1).1 = 2 then (0, (wd g n st.1).2.1) else if (wd g n st.1).1 = 3 then (2, (wd g n st.1).2.1) else (3, 0)])
noncomputable def morN (g : Int → Int) (n : Int) (R : gP) (deep least : Int) : Nat → pI → pS → pR
  | 0, _, _ => .inl (0, 0)
  | m + 1, L, st =>
    if (wd g n st.1).1 = 6 then .inl ((wd g n st.1).2.1, (wd g n st.1).2.2.1)
    else if opO (wd g n st.1) = -1 ∨ bnO (opO (wd g n st.1)) < least then .inr (st, L)
    else if st.2.2.1 = 2000 ∨ st.2.2.2 = 60 then .inl (8, (wd g n st.1).2.2.1)
    else match R.1 ((wd g n st.1).2.2.2, st.2.1, st.2.2.1 + 1, st.2.2.2 + 1) deep (bnO (opO (wd g n st.1)) + 1) with
    | .inl e => .inl e
    | .inr (s', L') => morN g n R deep least m (L ++ L' ++ [(opO (wd g n st.1), 0)]) s'
noncomputable def sumF (R : gP) (st : pS) (deep least : Int) : pR := match R.2.2.1 st deep with
  | .inl e => .inl e
  | .inr (s', L) => R.2.1 L s' deep least
noncomputable def inBrF (g : Int → Int) (n : Int) (R : gP) (st : pS) (deep : Int) : pR := match R.1 st deep 1 with
  | .inl e => .inl e
  | .inr (s', L) => if (wd g n s'.1).1 = 6 then .inl ((wd g n s'.1).2.1, (wd g n s'.1).2.2.1) else if (wd g n s'.1).1 = 5 ∧ (wd g n s'.1).2.1 = 41 then .inr (((wd g n s'.1).2.2.2, s'.2), L) else .inl (5, (wd g n s'.1).2.2.1)
noncomputable def gp (g : Int → Int) (n : Int) : Nat → gP
  | 0 => (fun _ _ _ => .inl (0, 0), fun _ _ _ _ => .inl (0, 0), fun _ _ => .inl (0, 0), fun _ _ => .inl (0, 0))
  | k + 1 => (sumF (gp g n k), fun L st deep least => morN g n (gp g n k) deep least (n + 1 - st.1).toNat L st, sglF g n (gp g n k), inBrF g n (gp g n k))
theorem gp_sum {k : Nat} : (gp g n (k + 1)).1 = sumF (gp g n k) := rfl
theorem gp_mor {k : Nat} {L : pI} {st : pS} {deep least : Int} : (gp g n (k + 1)).2.1 L st deep least = morN g n (gp g n k) deep least (n + 1 - st.1).toNat L st := rfl
theorem gp_sgl {k : Nat} : (gp g n (k + 1)).2.2.1 = sglF g n (gp g n k) := rfl
theorem gp_inb {k : Nat} : (gp g n (k + 1)).2.2.2 = inBrF g n (gp g n k) := rfl
end jPure
