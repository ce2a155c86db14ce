/-! operands, statements, lines, as both sides read them -/
section jPure2
variable {g : Int → Int} {n p c : Int}
abbrev fE : Type := Int × Int
/-- place, names, counted -/
abbrev qS : Type := Int × List (List Int) × Int
/-- an operand: sort, register, mark, first item, items, place, bytes -/
abbrev pvO : Type := Int × Int × Int × Int × Int × Int × List Int
/-- a statement: sort, value, first operand, operands, place, line -/
abbrev pvS : Type := Int × Int × Int × Int × Int × Int
noncomputable def pvNeed (g : Int → Int) (n p c : Int) : fE ⊕ Int :=
  if (wd g n p).1 = 6 then .inl ((wd g n p).2.1, (wd g n p).2.2.1)
  else if (wd g n p).1 = 5 ∧ (wd g n p).2.1 = c then .inr (wd g n p).2.2.2 else .inl (5, (wd g n p).2.2.1)
/-- the register that a word names -/
noncomputable def pvReg (g : Int → Int) (W : wR4) : Int := if W.1 = 1 ∨ W.1 = 7 then rgO (nmO g W.2.2.1 W.2.2.2) else -1
noncomputable def pvBased (g : Int → Int) (n p : Int) : fE ⊕ (Int × Int) :=
  if (wd g n p).1 = 6 then .inl ((wd g n p).2.1, (wd g n p).2.2.1)
  else if pvReg g (wd g n p) = -1 then .inl (5, (wd g n p).2.2.1)
  else match pvNeed g n (wd g n p).2.2.2 41 with
    | .inl e => .inl e
    | .inr p' => .inr (pvReg g (wd g n p), p')
noncomputable def pvSum (g : Int → Int) (n : Int) (q : qS) : fE ⊕ (qS × pI) := match (gp g n 450).1 (q.1, q.2.1, q.2.2, 0) 1 1 with
  | .inl e => .inl e
  | .inr z => .inr ((z.1.1, z.1.2.1, z.1.2.2.1), z.2)
/-- a value: what is behind, items, sort, register, mark -/
abbrev vR : Type := fE ⊕ (qS × pI × Int × Int × Int)
noncomputable def pvTail (g : Int → Int) (n : Int) (q : qS) (L : pI) (mk : Int) : vR :=
  if (wd g n q.1).1 = 6 then .inl ((wd g n q.1).2.1, (wd g n q.1).2.2.1)
  else if (wd g n q.1).1 = 5 ∧ (wd g n q.1).2.1 = 40 then match pvBased g n (wd g n q.1).2.2.2 with
    | .inl e => .inl e
    | .inr z => .inr ((z.2, q.2), L, 2, z.1, mk)
  else .inr (q, L, 0, -1, mk)
noncomputable def pvMarked (g : Int → Int) (n : Int) (q : qS) : fE ⊕ (qS × pI × Int) :=
  if (wd g n q.1).1 = 6 then .inl ((wd g n q.1).2.1, (wd g n q.1).2.2.1)
  else if ¬ ((wd g n q.1).1 = 1 ∨ (wd g n q.1).1 = 7) then .inl (5, (wd g n q.1).2.2.1)
  else if mkO (nmO g (wd g n q.1).2.2.1 (wd g n q.1).2.2.2) = 0 then .inl (6, (wd g n q.1).2.2.1)
  else match pvNeed g n (wd g n q.1).2.2.2 40 with
    | .inl e => .inl e
    | .inr p1 => match pvSum g n (p1, q.2) with
      | .inl e => .inl e
      | .inr z => match pvNeed g n z.1.1 41 with
        | .inl e => .inl e
        | .inr p2 => .inr ((p2, z.1.2), z.2, mkO (nmO g (wd g n q.1).2.2.1 (wd g n q.1).2.2.2))
noncomputable def pvVal (g : Int → Int) (n : Int) (q : qS) : vR :=
  if (wd g n q.1).1 = 5 ∧ (wd g n q.1).2.1 = 37 then match pvMarked g n ((wd g n q.1).2.2.2, q.2) with
    | .inl e => .inl e
    | .inr z => pvTail g n z.1 z.2.1 z.2.2
  else if ((wd g n q.1).1 = 5 ∧ (wd g n q.1).2.1 = 40) ∧ ¬ pvReg g (wd g n (wd g n q.1).2.2.2) = -1 then
    if q.2.2 = 2000 then .inl (8, (wd g n q.1).2.2.1)
    else match pvBased g n (wd g n q.1).2.2.2 with
      | .inl e => .inl e
      | .inr z => .inr ((z.2, q.2.1, q.2.2 + 1), [(0, 0)], 2, z.1, 0)
  else match pvSum g n q with
    | .inl e => .inl e
    | .inr z => pvTail g n z.1 z.2 0
def isFst (W : wR4) : Prop := W.1 = 1 ∨ W.1 = 7 ∨ W.1 = 2 ∨ W.1 = 3 ∨ W.1 = 4 ∨ (W.1 = 5 ∧ (W.2.1 = 37 ∨ W.2.1 = 40 ∨ W.2.1 = 45 ∨ W.2.1 = 126))
/-- an operand; k items, o operands are there -/
noncomputable def pvOp (g : Int → Int) (n : Int) (q : qS) (k o : Int) : fE ⊕ (qS × pI × pvO) :=
  if (wd g n q.1).1 = 6 then .inl ((wd g n q.1).2.1, (wd g n q.1).2.2.1)
  else cif (¬ isFst (wd g n q.1)) (.inl (5, (wd g n q.1).2.2.1)) <|
  if o = 800 then .inl (8, (wd g n q.1).2.2.1)
  else if (wd g n q.1).1 = 4 then .inr (((wd g n q.1).2.2.2, q.2), [], (3, -1, 0, k, 0, (wd g n q.1).2.2.1, stB g n (wd g n q.1).2.2.1))
  else if ¬ pvReg g (wd g n q.1) = -1 then .inr (((wd g n q.1).2.2.2, q.2), [], (1, pvReg g (wd g n q.1), 0, k, 0, (wd g n q.1).2.2.1, []))
  else match pvVal g n q with
    | .inl e => .inl e
    | .inr v => .inr (v.1, v.2.1, (v.2.2.1, v.2.2.2.1, v.2.2.2.2, k, v.2.1.length, (wd g n q.1).2.2.1, []))
def sMany (s : pvS) (m : Int) : pvS := (s.1, s.2.1, s.2.2.1, m, s.2.2.2.2)
/-- operands of a statement -/
noncomputable def pvOps (g : Int → Int) (n : Int) : Nat → qS → pI → List pvO → pvS → fE ⊕ (qS × pI × List pvO × pvS)
  | 0, _, _, _, _ => .inl (0, 0)
  | m + 1, q, I, OL, s => match pvOp g n q I.length OL.length with
    | .inl e => .inl e
    | .inr z =>
      if (wd g n z.1.1).1 = 6 then .inl ((wd g n z.1.1).2.1, (wd g n z.1.1).2.2.1)
      else if (wd g n z.1.1).1 = 5 ∧ (wd g n z.1.1).2.1 = 44 then pvOps g n m ((wd g n z.1.1).2.2.2, z.1.2) (I ++ z.2.1) (OL ++ [z.2.2]) (sMany s (s.2.2.2.1 + 1))
      else if (wd g n z.1.1).1 = 0 then .inr (z.1, I ++ z.2.1, OL ++ [z.2.2], sMany s (s.2.2.2.1 + 1))
      else .inl (5, (wd g n z.1.1).2.2.1)
/-- what is read: place, names, counted; items; operands; statements -/
abbrev pvB : Type := qS × pI × List pvO × List pvS
noncomputable def pvEnd (g : Int → Int) (n : Int) (q : qS) (I : pI) (OL : List pvO) (SL : List pvS) (s : pvS) : fE ⊕ pvB :=
  if (wd g n q.1).1 = 6 then .inl ((wd g n q.1).2.1, (wd g n q.1).2.2.1)
  else if (wd g n q.1).1 = 0 then .inr (q, I, OL, SL ++ [s])
  else match pvOps g n (n + 1 - q.1).toNat q I OL s with
    | .inl e => .inl e
    | .inr z => .inr (z.1, z.2.1, z.2.2.1, SL ++ [z.2.2.2])
noncomputable def pvLine (g : Int → Int) (n : Int) (ln : Int) : Nat → pvB → fE ⊕ pvB
  | 0, _ => .inl (0, 0)
  | m + 1, b =>
    if (wd g n b.1.1).1 = 6 then .inl ((wd g n b.1.1).2.1, (wd g n b.1.1).2.2.1)
    else if (wd g n b.1.1).1 = 0 then .inr b
    else if (wd g n b.1.1).1 = 2 ∧ (wd g n b.1.1).2.2.2 = (wd g n b.1.1).2.2.1 + 1 then
      if (b.2.2.2.length : Int) = 400 then .inl (8, (wd g n b.1.1).2.2.1)
      else match pvNeed g n (wd g n b.1.1).2.2.2 58 with
        | .inl e => .inl e
        | .inr p => pvLine g n ln m ((p, b.1.2), b.2.1, b.2.2.1, b.2.2.2 ++ [((1 : Int), (wd g n b.1.1).2.1, (b.2.2.1.length : Int), (0 : Int), (wd g n b.1.1).2.2.1, ln)])
    else if (wd g n b.1.1).1 = 1 then
      if (b.2.2.2.length : Int) = 400 ∨ nmIx b.1.2.1 (nmO g (wd g n b.1.1).2.2.1 (wd g n b.1.1).2.2.2) = 150 then .inl (8, (wd g n b.1.1).2.2.1)
      else if (wd g n (wd g n b.1.1).2.2.2).1 = 6 then .inl ((wd g n (wd g n b.1.1).2.2.2).2.1, (wd g n (wd g n b.1.1).2.2.2).2.2.1)
      else if rgO (nmO g (wd g n b.1.1).2.2.1 (wd g n b.1.1).2.2.2) = -1 ∧ ((wd g n (wd g n b.1.1).2.2.2).1 = 5 ∧ (wd g n (wd g n b.1.1).2.2.2).2.1 = 58) then
        pvLine g n ln m (((wd g n (wd g n b.1.1).2.2.2).2.2.2, nmAdd b.1.2.1 (nmO g (wd g n b.1.1).2.2.1 (wd g n b.1.1).2.2.2), b.1.2.2), b.2.1, b.2.2.1, b.2.2.2 ++ [((0 : Int), ((nmIx b.1.2.1 (nmO g (wd g n b.1.1).2.2.1 (wd g n b.1.1).2.2.2) : Nat) : Int), (b.2.2.1.length : Int), (0 : Int), (wd g n b.1.1).2.2.1, ln)])
      else pvEnd g n ((wd g n b.1.1).2.2.2, nmAdd b.1.2.1 (nmO g (wd g n b.1.1).2.2.1 (wd g n b.1.1).2.2.2), b.1.2.2) b.2.1 b.2.2.1 b.2.2.2 (2, ((nmIx b.1.2.1 (nmO g (wd g n b.1.1).2.2.1 (wd g n b.1.1).2.2.2) : Nat) : Int), (b.2.2.1.length : Int), 0, (wd g n b.1.1).2.2.1, ln)
    else .inl (5, (wd g n b.1.1).2.2.1)
/-- all lines -/
noncomputable def pvAll (g : Int → Int) (n : Int) : Nat → Int → pvB → fE ⊕ pvB
  | 0, _, _ => .inl (0, 0)
  | m + 1, ln, b => match pvLine g n ln (n + 1 - b.1.1).toNat b with
    | .inl e => .inl e
    | .inr z => if (wd g n z.1.1).2.2.1 < n then pvAll g n m (ln + 1) (((wd g n z.1.1).2.2.1 + 1, z.1.2), z.2) else .inr z
/-- a bracket before an expression, taken on its own -/
theorem gp_br {st : pS} (h : (wd g n st.1).1 = 5 ∧ (wd g n st.1).2.1 = 40) : (gp g n 450).1 st 1 1 = match (gp g n 450).2.2.2 ((wd g n st.1).2.2.2, st.2) 2 with
    | .inl e => .inl e
    | .inr z => (gp g n 450).2.1 z.2 z.1 1 1 := by
  show sumF (gp g n 449) st 1 1 = _
  have f1 := (gp_fuel (g := g) (n := n) 449 1 (by decide) (by decide)).2.2.1 (by decide) st
  have f2 := (gp_fuel (g := g) (n := n) 449 1 (by decide) (by decide)).2.1 1 (by decide) (by decide) (by decide)
  have f3 := (gp_fuel (g := g) (n := n) 450 1 (by decide) (by decide)).2.2.1 (by decide) st
  unfold sumF
  rw [← f1, ← f3]
  have e : (gp g n (450 + 1)).2.2.1 st 1 = (gp g n 450).2.2.2 ((wd g n st.1).2.2.2, st.2) 2 := by
    show sglF g n (gp g n 450) st 1 = _
    rw [sglF_eq, if_neg (by omega), if_neg (fun z => z.1 (by omega)), if_neg (fun z => by have := z.1; omega)]
    unfold sgR
    rw [if_neg (by decide), if_pos h]; rfl
  rw [e]
  cases hG : (gp g n 450).2.2.2 ((wd g n st.1).2.2.2, st.2) 2 with
  | inl z => rfl
  | inr z => exact (f2 z.2 z.1).symm
end jPure2
