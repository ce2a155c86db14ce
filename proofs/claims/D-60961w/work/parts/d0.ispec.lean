/-! an image; its sum; rows of conditions of a file of an image -/
section jIspec
variable {s t u : jS} {X n p f a b x y e k m z : Int} {g g' : Int → Int} {i j : Int → Int → Int → Int}
/-- one bit more in the sum; a byte; a number -/
noncomputable def crS (c b k : Int) : Int := I_xor (I_ushr c 1) (if I_and (I_xor c (I_shr b k)) 1 = 1 then -306674912 else 0)
noncomputable def crK (b : Int) : Nat → Int → Int
  | 0, c => c
  | m + 1, c => crS (crK b m c) b m
noncomputable def crB (c b : Int) : Int := crK b 8 c
noncomputable def crF (f : Int → Int) : Nat → Int → Int
  | 0, c => c
  | m + 1, c => crB (crF f m c) (f m)
noncomputable def crN (c v : Int) : Int := crF (fun k => I_and (I_shr v (8 * k)) 255) 4 c
/-- bits -/
def bt8 (b k : Int) : Int := b / 2 ^ k.toNat % 2
/-- a byte of marks -/
def mkB (f : Int → Int) (k : Int) : Int := f (8 * k) + 2 * f (8 * k + 1) + 4 * f (8 * k + 2) + 8 * f (8 * k + 3) + 16 * f (8 * k + 4) + 32 * f (8 * k + 5) + 64 * f (8 * k + 6) + 128 * f (8 * k + 7)
def mkN (i : Int → Int → Int → Int) : Int := if i 1 0 0 = 0 then 0 else (i 1 0 2 + 15) / 16
/-- the sum of an image -/
noncomputable def crG (i : Int → Int → Int → Int) (x c : Int) : Int := if i 1 x 0 = 0 then c else crF (fun k => i 0 x k) (i 1 x 2).toNat (crN (crN c (i 1 x 1)) (i 1 x 3))
noncomputable def sumI (i : Int → Int → Int → Int) : Int := I_xor (crF (mkB fun k => i 3 k 0) (mkN i).toNat (crG i 2 (crG i 1 (crG i 0 (crN (-1) (i 2 0 0)))))) (-1)
/-- numbers of a row -/
def JT (g : Int → Int) : Int := r4 g 28
def JE (g : Int → Int) : Int := r2 g 44
def jt' (g : Int → Int) (e k : Int) : Int := JT g + 32 * e + 4 * k
def it (g : Int → Int) (e k : Int) : Int := r4 g (jt' g e k)
def JHead (g : Int → Int) (n : Int) : List (Prop × Int × Int) := (52 ≤ n, 1, n) :: (ckF (fun k => [(g k = mgc k, 2, k)]) 0 4 ++ (ckF (fun k => [(g k = 1, k - 1, k)]) 4 7 ++ (ckF (fun k => [(g k = 0, 6, k)]) 7 16 ++
  ((r2 g 16 = 2, 7, 16) :: (r2 g 18 = 243, 8, 18) :: (r4 g 20 = 1, 9, 20) :: (r4 g 28 % 4 = 0 ∧ 52 ≤ r4 g 28, 9, 28) :: (r4 g 32 = 0, 9, 32) :: (r4 g 36 < 2, 9, 36) :: (r2 g 40 = 52, 9, 40) :: (r2 g 42 = 32, 9, 42) :: (1 ≤ r2 g 44 ∧ r2 g 44 ≤ 8, 9, 44) :: (r2 g 46 = 0, 9, 46) :: (r2 g 48 = 0, 9, 48) :: (r2 g 50 = 0, 9, 50) :: (r4 g 28 + 32 * r2 g 44 ≤ n, 10, 28) :: []))))
def Jd (g : Int → Int) (n : Int) : Prop := 52 ≤ n ∧ JT g % 4 = 0 ∧ 52 ≤ JT g ∧ 1 ≤ JE g ∧ JE g ≤ 8 ∧ JT g + 32 * JE g ≤ n
theorem JHead_ok (h : Gd (JHead g n)) : Jd g n := by
  unfold JHead at h
  simp only [Gd_cons, Gd_app] at h
  obtain ⟨h1, -, -, -, -, -, -, h2, -, -, -, -, h4, -, -, -, h6, -⟩ := h
  exact ⟨h1, h2.1, h2.2, h4.1, h4.2, h6⟩
/-- which part a row tells: 3 the marks, -1 none -/
def srI (g : Int → Int) (e : Int) : Int := if it g e 0 = 4 then (if it g e 6 = 4 then 3 else -1) else if it g e 6 = 5 then 0 else if it g e 6 = 4 then 1 else if it g e 6 = 6 then 2 else -1
/-- a part's row among the first -/
def rwN (g : Int → Int) (x : Int) : Nat → Int
  | 0 => -1
  | m + 1 => if ¬ it g m 0 = 0 ∧ srI g m = x then m else rwN g x m
def rwI (g : Int → Int) (x e : Int) : Int := rwN g x e.toNat
theorem rwI_0 : rwI g x 0 = -1 := rfl
theorem rwI_s (h : 0 ≤ e) : rwI g x (e + 1) = if ¬ it g e 0 = 0 ∧ srI g e = x then e else rwI g x e := by
  unfold rwI
  rw [show (e + 1).toNat = e.toNat + 1 by omega]
  show (if ¬ it g (e.toNat : Nat) 0 = 0 ∧ srI g (e.toNat : Nat) = x then ((e.toNat : Nat) : Int) else rwN g x e.toNat) = _
  rw [show ((e.toNat : Nat) : Int) = e by omega]
theorem rwI_lo (h : 0 ≤ e) : rwI g x e = -1 ∨ 0 ≤ rwI g x e ∧ rwI g x e < e ∧ ¬ it g (rwI g x e) 0 = 0 ∧ srI g (rwI g x e) = x := by
  have key : ∀ m : Nat, rwN g x m = -1 ∨ 0 ≤ rwN g x m ∧ rwN g x m < m ∧ ¬ it g (rwN g x m) 0 = 0 ∧ srI g (rwN g x m) = x := by
    intro m
    induction m with
    | zero => exact .inl rfl
    | succ m ih =>
      rw [show rwN g x (m + 1) = if ¬ it g m 0 = 0 ∧ srI g m = x then (m : Int) else rwN g x m from rfl]
      by_cases c : ¬ it g m 0 = 0 ∧ srI g m = x
      · rw [if_pos c]; exact .inr ⟨by omega, by omega, c.1, c.2⟩
      · rw [if_neg c]
        rcases ih with ih | ⟨i1, i2, i3⟩
        · exact .inl ih
        · exact .inr ⟨i1, by omega, i3⟩
  have := key e.toNat
  unfold rwI
  rcases this with h' | ⟨h1, h2, h3⟩
  · exact .inl h'
  · exact .inr ⟨h1, by omega, h3⟩
/-- the powers of 2 up to 4096 -/
def pP2 (v : Int) : Prop := v = 1 ∨ v = 2 ∨ v = 4 ∨ v = 8 ∨ v = 16 ∨ v = 32 ∨ v = 64 ∨ v = 128 ∨ v = 256 ∨ v = 512 ∨ v = 1024 ∨ v = 2048 ∨ v = 4096
def p2B (v : Int) : Bool := decide (v = 1 ∨ v = 2 ∨ v = 4 ∨ v = 8 ∨ v = 16 ∨ v = 32 ∨ v = 64 ∨ v = 128 ∨ v = 256 ∨ v = 512 ∨ v = 1024 ∨ v = 2048 ∨ v = 4096)
theorem p2B_i {v : Int} : p2B v = true ↔ pP2 v := by unfold p2B pP2; simp
theorem pP2.lo {v : Int} (h : pP2 v) : 1 ≤ v ∧ v ≤ 4096 := by unfold pP2 at h; omega
def JRow (g : Int → Int) (n e : Int) : List (Prop × Int × Int) := (it g e 0 = 0 ∨ it g e 0 = 1 ∨ it g e 0 = 4, 11, jt' g e 0) :: (if it g e 0 = 0 then [] else
  [(it g e 1 + it g e 4 ≤ n ∧ (it g e 4 = 0 ∨ 52 ≤ it g e 1), 12, jt' g e 1), (pP2 (it g e 7) ∧ if it g e 0 = 4 then it g e 1 % 4 = 0 else it g e 1 % it g e 7 = it g e 2 % it g e 7, 13, jt' g e 7), (¬ srI g e = -1 ∧ rwI g (srI g e) e = -1, 14, jt' g e 6),
   (if it g e 0 = 4 then it g e 2 = 0 else it g e 2 < 131072, 15, jt' g e 2), (it g e 3 = it g e 2, 16, jt' g e 3), (it g e 0 = 4 ∨ it g e 4 ≤ 4096, 17, jt' g e 4), (if it g e 0 = 4 then it g e 5 = 0 else it g e 4 ≤ it g e 5 ∧ it g e 5 ≤ it g e 4 + (if srI g e = 2 then 32768 else 0), 18, jt' g e 5),
   (it g e 4 = 0 ∨ ¬ mt (it g e 1) (it g e 4) (JT g) (32 * JE g) ∧ ∀ k, 0 ≤ k → k < e → ¬ it g k 0 = 0 → ¬ it g k 4 = 0 → ¬ mt (it g e 1) (it g e 4) (it g k 1) (it g k 4), 19, jt' g e 1)])
def JRows (g : Int → Int) (n : Int) : List (Prop × Int × Int) := ckF (JRow g n) 0 (JE g) ++ []
/-- the row of a part, of all -/
def jw' (g : Int → Int) (x : Int) : Int := rwI g x (JE g)
/-- what good rows tell -/
def Jr (g : Int → Int) (n : Int) : Prop := ∀ e, 0 ≤ e → e < JE g → ¬ it g e 0 = 0 → it g e 1 + it g e 4 ≤ n ∧ (it g e 4 = 0 ∨ 52 ≤ it g e 1) ∧ pP2 (it g e 7) ∧ (¬ it g e 0 = 4 → it g e 2 < 131072 ∧ it g e 4 ≤ 4096 ∧ it g e 4 ≤ it g e 5 ∧ it g e 5 ≤ it g e 4 + (if srI g e = 2 then 32768 else 0))
theorem Jr_of (h : Gd (JRows g n)) : Jr g n := fun e e0 e1 c => by
  unfold JRows at h
  rw [List.append_nil, ckF_gd] at h
  have := h e e0 e1
  unfold JRow at this
  rw [if_neg c] at this
  simp only [Gd_cons] at this
  obtain ⟨-, h1, h2, -, h3, -, h4, h5, -, -⟩ := this
  refine ⟨h1.1, h1.2, h2.1, fun c4 => ?_⟩
  rw [if_neg c4] at h3 h5
  exact ⟨h3, h4.resolve_left c4, h5⟩
/-- segments -/
def mtI (g : Int → Int) (x y : Int) : Prop := ¬ jw' g x = -1 ∧ ¬ jw' g y = -1 ∧ ¬ it g (jw' g x) 5 = 0 ∧ ¬ it g (jw' g y) 5 = 0 ∧ it g (jw' g x) 2 < it g (jw' g y) 2 + it g (jw' g y) 5 ∧ it g (jw' g y) 2 < it g (jw' g x) 2 + it g (jw' g x) 5
def mxI (g : Int → Int) (x y : Int) : Int := if jw' g x < jw' g y then jw' g y else jw' g x
def JSegs (g : Int → Int) : List (Prop × Int × Int) := (¬ jw' g 0 = -1 ∧ 0 < it g (jw' g 0) 4 ∧ it g (jw' g 0) 4 % 2 = 0, 21, 44) :: (ckF (fun x => [(jw' g x = -1 ∨ it g (jw' g x) 2 + it g (jw' g x) 5 ≤ 131072, 22, jt' g (jw' g x) 5)]) 0 3 ++
  [(¬ mtI g 0 1, 23, jt' g (mxI g 0 1) 2), (¬ mtI g 0 2, 23, jt' g (mxI g 0 2) 2), (¬ mtI g 1 2, 23, jt' g (mxI g 1 2) 2)])
/-- marks -/
def nP (g : Int → Int) : Int := it g (jw' g 3) 1
def nZ (g : Int → Int) : Int := it g (jw' g 3) 4
def nT (g : Int → Int) : Int := it g (jw' g 0) 4
def nmB (k : Int) : Int := if k = 0 then 77 else if k = 1 then 97 else if k = 2 then 114 else if k = 3 then 107 else if k = 4 then 115 else 0
def up4 (v : Int) : Int := (v + 3) / 4 * 4
def mkG (g : Int → Int) (k : Int) : Int := if 0 ≤ k ∧ 2 * k < nT g then bt8 (g (nP g + 28 + k / 8)) (k % 8) else 0
/-- an image that is told by a file -/
noncomputable def iR (g : Int → Int) : Int → Int → Int → Int := fun c a k => if c = 0 then g (it g (jw' g a) 1 + k) else if c = 1 then (if k = 0 then (if jw' g a = -1 then 0 else 1) else if k = 1 then it g (jw' g a) 2 else if k = 2 then it g (jw' g a) 4 else it g (jw' g a) 5 - it g (jw' g a) 4)
  else if c = 2 then (if a = 0 then W32 (r4 g 24) else jmx (jmx (jmx 1 (if jw' g 0 = -1 then 1 else it g (jw' g 0) 7)) (if jw' g 1 = -1 then 1 else it g (jw' g 1) 7)) (if jw' g 2 = -1 then 1 else it g (jw' g 2) 7)) else mkG g a
/-- a short word's place in the text -/
def shI (i : Int → Int → Int → Int) (k : Int) : Bool := decide (¬ i 0 0 (2 * k) % 4 = 3)
def isMk (i : Int → Int → Int → Int) (v : Int) : Prop := i 1 0 1 ≤ v ∧ v < i 1 0 1 + i 1 0 2 ∧ (v - i 1 0 1) % 2 = 0 ∧ ¬ i 3 ((v - i 1 0 1) / 2) 0 = 0
noncomputable def JNote (g : Int → Int) : List (Prop × Int × Int) := (¬ jw' g 3 = -1, 24, 44) :: (28 ≤ nZ g, 25, jt' g (jw' g 3) 4) :: (r4 g (nP g) = 6, 25, nP g) :: (r4 g (nP g + 4) = nZ g - 20, 25, nP g + 4) :: (r4 g (nP g + 8) = 1, 25, nP g + 8) :: (ckF (fun k => [(g (nP g + 12 + k) = nmB k, 25, nP g + 12 + k)]) 0 8 ++
  ((r4 g (nP g + 20) = nT g / 2, 25, nP g + 20) :: (nZ g = 28 + up4 ((nT g + 15) / 16), 25, jt' g (jw' g 3) 4) :: (ckF (fun k => ckF (fun j => [(bt8 (g (nP g + 28 + k)) j = 0 ∨ 8 * k + j < nT g / 2, 26, nP g + 28 + k)]) 0 8) 0 (nZ g - 28) ++
  (ckF (fun k => [(mkG g k = 0 ∨ shI (iR g) k = true ∨ 2 * k + 4 ≤ nT g ∧ mkG g (k + 1) = 0, 27, nP g + 28 + k / 8)]) 0 (nT g / 2) ++ [(isMk (iR g) (W32 (r4 g 24)), 28, 24), (W32 (r4 g (nP g + 24)) = sumI (iR g), 29, nP g + 24), ((r4 g 36 = 1 ↔ 0 < cn (fun k => decide (¬ mkG g k = 0) && shI (iR g) k) (nT g / 2)), 30, 36)]))))
noncomputable def JAll (g : Int → Int) (n : Int) : List (Prop × Int × Int) := JHead g n ++ (JRows g n ++ (JSegs g ++ JNote g))
end jIspec
