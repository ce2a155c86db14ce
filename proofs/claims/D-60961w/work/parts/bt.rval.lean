/-! the object that a good file tells -/
section jRval
variable {s t u : jS} {B N R n p f a b x y e k : Int} {g g' : Int → Int} {o : Int → Int → Int → Int}
def Sz1 (g : Int → Int) (e : Int) : Prop := if pt g e < 3 then rt g e 5 ≤ 2048 else if pt g e = 3 then rt g e 5 ≤ 4096 else if pt g e = 4 then rt g e 5 % 2 = 0 ∧ rt g e 5 ≤ 2048 else if isM (pt g e) = true then rt g e 5 % 12 = 0 ∧ mvN g (e + 1).toNat ≤ 3600 else if pt g e = 8 then rt g e 5 % 16 = 0 ∧ 16 ≤ rt g e 5 ∧ rt g e 5 ≤ 1616 else True
def Sz (g : Int → Int) : Prop := (∀ e, 1 ≤ e → e < RE g → Sz1 g e) ∧ 0 < rt g (ep g 9) 5 ∧ g (rt g (ep g 9) 4) = 0 ∧ g (rt g (ep g 9) 4 + rt g (ep g 9) 5 - 1) = 0
theorem Sz_of (h : Gd (Lsizes g)) : Sz g := by
  unfold Lsizes at h
  rw [Gd_app, ckF_gd] at h
  obtain ⟨h1, h2⟩ := h
  unfold Lstr at h2
  simp only [Gd_cons] at h2
  exact ⟨fun e e0 e1 => (Gd_cons.mp (h1 e e0 e1)).1, h2.1, h2.2.1, h2.2.2.1⟩
/-- all that holds ahead of the sections -/
def Pr (g : Int → Int) (n : Int) : Prop := Hd g n ∧ En g n ∧ Nm g ∧ Ru g ∧ Sz g ∧ byG g n ∧ n ≤ 8192
theorem Pr.lo (h : Pr g n) (e0 : 0 ≤ e) (e1 : e < RE g) (k0 : 0 ≤ k) (k1 : k < 10) : 0 ≤ rt g e k ∧ rt g e k < 4294967296 := by
  have hr := rf_in h.1 h.2.2.2.2.2.2 e0 e1 k0 k1
  exact r4_lo h.2.2.2.2.2.1 (by omega) hr.2
/-- a part that is there -/
theorem Pr.en (h : Pr g n) {k : Nat} (c : ¬ ep g k = 0) : 1 ≤ ep g k ∧ ep g k < RE g ∧ pt g (ep g k) = k ∧ k < 11 := by
  rcases ep_cases h.2.2.1 k with q | q
  · exact absurd q.1 c
  · have := (h.2.2.1 _ q.1 q.2.1).2.1.1
    exact ⟨q.1, q.2.1, q.2.2, by omega⟩
theorem Pr.part (h : Pr g n) {k : Nat} (k3 : ¬ k = 3) : 0 ≤ fR g k ∧ 0 ≤ sR g k ∧ fR g k + sR g k ≤ n ∧ (0 < sR g k → 52 ≤ fR g k) ∧ (ep g k = 0 → sR g k = 0) := by
  have h0 := h.1.1
  unfold fR sR
  by_cases c : ep g k = 0
  · rw [if_pos c, if_pos c]; omega
  · rw [if_neg c, if_neg c]
    obtain ⟨q1, q2, q3, q4⟩ := h.en c
    have hi := In_of h.2.1 h.2.2.2.1 q1 q2 (by omega)
    have w4 := h.lo (e := ep g k) (k := 4) (by omega) q2 (by omega) (by omega)
    have w5 := h.lo (e := ep g k) (k := 5) (by omega) q2 (by omega) (by omega)
    omega
theorem Pr.part3 (h : Pr g n) : 0 ≤ sR g 3 ∧ sR g 3 ≤ 4096 := by
  unfold sR
  by_cases c : ep g 3 = 0
  · rw [if_pos c]; omega
  · rw [if_neg c]
    obtain ⟨q1, q2, q3, q4⟩ := h.en c
    have w5 := h.lo (e := ep g 3) (k := 5) (by omega) q2 (by omega) (by omega)
    have := h.2.2.2.2.1.1 _ q1 q2
    unfold Sz1 at this
    rw [q3, if_neg (by omega), if_pos rfl] at this
    omega
theorem Pr.sec (h : Pr g n) {k : Nat} (hk : k < 3) : sR g k ≤ 2048 := by
  unfold sR
  by_cases c : ep g k = 0
  · rw [if_pos c]; omega
  · rw [if_neg c]
    obtain ⟨q1, q2, q3, q4⟩ := h.en c
    have := h.2.2.2.2.1.1 _ q1 q2
    unfold Sz1 at this
    rw [q3, if_pos hk] at this
    exact this
theorem Pr.s4 (h : Pr g n) : sR g 4 ≤ 2048 ∧ sR g 4 % 2 = 0 := by
  unfold sR
  by_cases c : ep g 4 = 0
  · rw [if_pos c]; omega
  · rw [if_neg c]
    obtain ⟨q1, q2, q3, q4⟩ := h.en c
    have := h.2.2.2.2.1.1 _ q1 q2
    unfold Sz1 at this
    rw [q3, if_neg (by omega), if_neg (by omega), if_pos rfl] at this
    omega
theorem Pr.s8 (h : Pr g n) : sR g 8 % 16 = 0 ∧ 16 ≤ sR g 8 ∧ sR g 8 ≤ 1616 := by
  have c : ¬ ep g 8 = 0 := by have := h.2.2.2.1.2.1; omega
  obtain ⟨q1, q2, q3, q4⟩ := h.en c
  unfold sR
  rw [if_neg c]
  have := h.2.2.2.2.1.1 _ q1 q2
  unfold Sz1 at this
  rw [q3, if_neg (by omega), if_neg (by omega), if_neg (by omega), if_neg (by decide), if_pos rfl] at this
  exact this
theorem Pr.s9 (h : Pr g n) : 0 < sR g 9 ∧ g (fR g 9) = 0 ∧ g (fR g 9 + sR g 9 - 1) = 0 := by
  have c : ¬ ep g 9 = 0 := by have := h.2.2.2.1.2.2.1; omega
  unfold sR fR
  rw [if_neg c, if_neg c]
  exact h.2.2.2.2.1.2
theorem Pr.mv (h : Pr g n) {k : Nat} (hk : 5 ≤ k) (hk' : k < 8) : sR g k % 12 = 0 := by
  unfold sR
  by_cases c : ep g k = 0
  · rw [if_pos c]; rfl
  · rw [if_neg c]
    obtain ⟨q1, q2, q3, q4⟩ := h.en c
    have := h.2.2.2.2.1.1 _ q1 q2
    unfold Sz1 at this
    rw [q3, if_neg (by omega), if_neg (by omega), if_neg (by omega), if_pos (isM_i.mpr ⟨hk, hk'⟩)] at this
    exact this.1
/-- relocations' bytes all together -/
noncomputable def mS (g : Int → Int) (k : Nat) (m : Int) : Int := if 1 ≤ ep g k ∧ ep g k < m then rt g (ep g k) 5 else 0
theorem mvN_sum (h : Pr g n) (m : Nat) (hm : (m : Int) ≤ RE g) : mvN g m = mS g 5 m + mS g 6 m + mS g 7 m := by
  induction m with
  | zero =>
    unfold mS
    rw [if_neg (by omega), if_neg (by omega), if_neg (by omega)]; rfl
  | succ m ih =>
    have ih := ih (by omega)
    show mvN g m + _ = _
    rw [ih]
    have st : ∀ k : Nat, mS g k ((m + 1 : Nat) : Int) = mS g k m + if 1 ≤ m ∧ ep g k = m then rt g m 5 else 0 := fun k => by
      unfold mS
      by_cases c : 1 ≤ m ∧ ep g k = m
      · rw [if_pos (by omega), if_neg (by omega), if_pos c, c.2]; omega
      · rw [if_neg c, Int.add_zero]
        by_cases c2 : 1 ≤ ep g k ∧ ep g k < m
        · rw [if_pos (by omega), if_pos c2]
        · rw [if_neg (by omega), if_neg c2]
    rw [st, st, st]
    by_cases c1 : 1 ≤ m
    · have hpt : ∀ k : Nat, ep g k = m ↔ pt g m = k := fun k => by
        constructor
        · intro q
          have := h.en (k := k) (by omega)
          rw [q] at this; exact this.2.2.1
        · intro q
          rw [← q]; exact ep_of h.2.2.1 (by omega) (by omega)
      simp only [hpt]
      by_cases c2 : isM (pt g m) = true
      · have := isM_i.mp c2
        rw [if_pos ⟨c1, c2⟩]
        have : pt g m = 5 ∨ pt g m = 6 ∨ pt g m = 7 := by omega
        rcases this with q | q | q
        · rw [if_pos ⟨c1, q⟩, if_neg (by omega), if_neg (by omega)]; omega
        · rw [if_neg (by omega), if_pos ⟨c1, q⟩, if_neg (by omega)]; omega
        · rw [if_neg (by omega), if_neg (by omega), if_pos ⟨c1, q⟩]; omega
      · have : ¬ (5 ≤ pt g m ∧ pt g m < 8) := fun z => c2 (isM_i.mpr z)
        rw [if_neg (fun z => c2 z.2), if_neg (by omega), if_neg (by omega), if_neg (by omega)]; omega
    · rw [if_neg (fun z => c1 z.1), if_neg (fun z => c1 z.1), if_neg (fun z => c1 z.1), if_neg (fun z => c1 z.1)]; omega
theorem mvN_le (h : Pr g n) (m : Nat) (hm : (m : Int) ≤ RE g) : mvN g m ≤ 3600 := by
  induction m with
  | zero => show (0 : Int) ≤ _; omega
  | succ m ih =>
    have ih := ih (by omega)
    show mvN g m + _ ≤ _
    by_cases c : 1 ≤ m ∧ isM (pt g m) = true
    · have hm := isM_i.mp c.2
      have := h.2.2.2.2.1.1 m (by omega) (by omega)
      unfold Sz1 at this
      rw [if_neg (by omega), if_neg (by omega), if_neg (by omega), if_pos c.2, show ((m : Int) + 1).toNat = m + 1 by omega] at this
      have e : mvN g (m + 1) = mvN g m + (if 1 ≤ m ∧ isM (pt g m) = true then rt g m 5 else 0) := rfl
      omega
    · rw [if_neg c]; omega
theorem Pr.mvs (h : Pr g n) : sR g 5 + sR g 6 + sR g 7 ≤ 3600 := by
  have h1 := h.1.2.2.2.1
  have := mvN_le h (RE g).toNat (by omega)
  rw [mvN_sum h _ (by omega), show (((RE g).toNat : Nat) : Int) = RE g by omega] at this
  have e : ∀ k, mS g k (RE g) = sR g k := fun k => by
    unfold mS sR
    by_cases c : ep g k = 0
    · rw [if_neg (by omega), if_pos c]
    · obtain ⟨q1, q2, q3, q4⟩ := h.en c
      rw [if_pos ⟨q1, q2⟩, if_neg c]
  rw [e, e, e] at this
  exact this
/-- how many relocations are ahead of a section's -/
noncomputable def bRl (g : Int → Int) (s : Int) : Int := if s = 0 then 0 else if s = 1 then sR g 5 / 12 else if s = 2 then sR g 5 / 12 + sR g 6 / 12 else sR g 5 / 12 + sR g 6 / 12 + sR g 7 / 12
noncomputable def sOf (g : Int → Int) (k : Int) : Int := if k < bRl g 1 then 0 else if k < bRl g 2 then 1 else 2
noncomputable def pOf (g : Int → Int) (k : Int) : Int := fR g (5 + (sOf g k).toNat) + 12 * (k - bRl g (sOf g k))
noncomputable def aRd (g : Int → Int) (k : Nat) : Int := if ep g k = 0 then 1 else rt g (ep g k) 8
noncomputable def ySw (g : Int → Int) (x : Int) : Int → Int := fun k => if k = 0 then yWh g x else if k = 1 then W32 (yVa g x) else if k = 2 then W32 (ySz g x) else if k = 3 then yHw g x else if k = 4 then g (ySy g x + 12) % 16 else if k = 5 then nLn g (yNm g x) else g (yNm g x + (k - 6))
noncomputable def mRw (g : Int → Int) (s p : Int) : Int → Int := fun k => if k = 0 then s else if k = 1 then W32 (r4 g p) else if k = 2 then g (p + 4) else if k = 3 then r4 g (p + 4) / 256 - 1 else W32 (r4 g (p + 8))
/-- the object: bytes; sizes, alignments; how many; starts; symbols; relocations -/
noncomputable def oP (g : Int → Int) (st sy rl : Int) : Int → Int → Int → Int := fun c a k =>
  if c = 0 then g (fR g a.toNat + k)
  else if c = 1 then (if k = 0 then sR g a.toNat else aRd g a.toNat)
  else if c = 2 then (if k = 0 then (if a = 0 then st else if a = 1 then sy else if a = 2 then rl else 0) else 0)
  else if c = 3 then r2 g (fR g 4 + 2 * a)
  else if c = 4 then ySw g (a + 1) k
  else mRw g (sOf g a) (pOf g a) k
noncomputable def oR (g : Int → Int) : Int → Int → Int → Int := oP g (sR g 4 / 2) (nSy g - 1) (bRl g 3)
variable {st sy rl : Int}
theorem oP_0 : oP g st sy rl 0 a k = g (fR g a.toNat + k) := rfl
theorem oP_10 : oP g st sy rl 1 a 0 = sR g a.toNat := rfl
theorem oP_11 : oP g st sy rl 1 a 1 = aRd g a.toNat := rfl
theorem oP_20 : oP g st sy rl 2 0 0 = st := rfl
theorem oP_21 : oP g st sy rl 2 1 0 = sy := rfl
theorem oP_22 : oP g st sy rl 2 2 0 = rl := rfl
theorem oP_3 : oP g st sy rl 3 a k = r2 g (fR g 4 + 2 * a) := rfl
theorem oP_4 : oP g st sy rl 4 a = ySw g (a + 1) := rfl
theorem oP_5 : oP g st sy rl 5 a = mRw g (sOf g a) (pOf g a) := rfl
theorem aRd_pw (h : Pr g n) (k : Nat) : pPw (aRd g k) := by
  unfold aRd
  by_cases c : ep g k = 0
  · rw [if_pos c]; exact .inl rfl
  · rw [if_neg c]
    obtain ⟨q1, q2, q3, q4⟩ := h.en c
    exact (h.2.1 _ q1 q2).2
/-- numbers of places -/
theorem sOf_b (h : Pr g n) {s x : Int} (s0 : 0 ≤ s) (s1 : s < 3) (x0 : 0 ≤ x) (x1 : x < sR g (5 + s.toNat) / 12) : sOf g (bRl g s + x) = s ∧ pOf g (bRl g s + x) = fR g (5 + s.toNat) + 12 * x := by
  have h5 := (h.part (k := 5) (by omega)).2.1
  have h6 := (h.part (k := 6) (by omega)).2.1
  have b1 : bRl g 1 = sR g 5 / 12 := rfl
  have b2 : bRl g 2 = sR g 5 / 12 + sR g 6 / 12 := rfl
  have e : sOf g (bRl g s + x) = s := by
    have : s = 0 ∨ s = 1 ∨ s = 2 := by omega
    unfold sOf
    rcases this with rfl | rfl | rfl
    · have b0 : bRl g 0 = 0 := rfl
      have x1' : x < sR g 5 / 12 := x1
      rw [if_pos (by omega)]
    · have x1' : x < sR g 6 / 12 := x1
      rw [if_neg (by omega), if_pos (by omega)]
    · rw [if_neg (by omega), if_neg (by omega)]
  refine ⟨e, ?_⟩
  unfold pOf
  rw [e]; omega
/-- a value with symbols, relocations, starts so far -/
theorem oP_ne1 {c : Int} (h : ¬ (c = 2 ∧ a = 1 ∧ k = 0)) : oP g st sy rl c a k = oP g st y rl c a k := by
  unfold oP
  by_cases c2 : c = 2
  · by_cases k0 : k = 0
    · have : ¬ a = 1 := fun z => h ⟨c2, z, k0⟩
      simp only [c2, k0, this, eq_self, and_false, false_and, and_true, true_and, if_true, if_false, reduceIte, Int.reduceEq, Int.reduceLT, Int.reduceLE, Int.reduceNeg, not_false_eq_true, Option.bind_some, jls]
    · simp only [c2, k0, eq_self, and_false, false_and, and_true, true_and, if_true, if_false, reduceIte, Int.reduceEq, Int.reduceLT, Int.reduceLE, Int.reduceNeg, not_false_eq_true, Option.bind_some, jls]
  · simp only [c2, eq_self, and_false, false_and, and_true, true_and, if_true, if_false, reduceIte, Int.reduceEq, Int.reduceLT, Int.reduceLE, Int.reduceNeg, not_false_eq_true, Option.bind_some, jls]
theorem oP_ne0 {c : Int} (h : ¬ (c = 2 ∧ a = 0 ∧ k = 0)) : oP g st sy rl c a k = oP g y sy rl c a k := by
  unfold oP
  by_cases c2 : c = 2
  · by_cases k0 : k = 0
    · have : ¬ a = 0 := fun z => h ⟨c2, z, k0⟩
      simp only [c2, k0, this, eq_self, and_false, false_and, and_true, true_and, if_true, if_false, reduceIte, Int.reduceEq, Int.reduceLT, Int.reduceLE, Int.reduceNeg, not_false_eq_true, Option.bind_some, jls]
    · simp only [c2, k0, eq_self, and_false, false_and, and_true, true_and, if_true, if_false, reduceIte, Int.reduceEq, Int.reduceLT, Int.reduceLE, Int.reduceNeg, not_false_eq_true, Option.bind_some, jls]
  · simp only [c2, eq_self, and_false, false_and, and_true, true_and, if_true, if_false, reduceIte, Int.reduceEq, Int.reduceLT, Int.reduceLE, Int.reduceNeg, not_false_eq_true, Option.bind_some, jls]
theorem oP_ne2 {c : Int} (h : ¬ (c = 2 ∧ a = 2 ∧ k = 0)) : oP g st sy rl c a k = oP g st sy y c a k := by
  unfold oP
  by_cases c2 : c = 2
  · by_cases k0 : k = 0
    · have : ¬ a = 2 := fun z => h ⟨c2, z, k0⟩
      simp only [c2, k0, this, eq_self, and_false, false_and, and_true, true_and, if_true, if_false, reduceIte, Int.reduceEq, Int.reduceLT, Int.reduceLE, Int.reduceNeg, not_false_eq_true, Option.bind_some, jls]
    · simp only [c2, k0, eq_self, and_false, false_and, and_true, true_and, if_true, if_false, reduceIte, Int.reduceEq, Int.reduceLT, Int.reduceLE, Int.reduceNeg, not_false_eq_true, Option.bind_some, jls]
  · simp only [c2, eq_self, and_false, false_and, and_true, true_and, if_true, if_false, reduceIte, Int.reduceEq, Int.reduceLT, Int.reduceLE, Int.reduceNeg, not_false_eq_true, Option.bind_some, jls]
theorem oP_sym : oSym (oP g st sy rl) (ySw g (sy + 1)) = oP g st (sy + 1) rl := by
  funext c a k
  unfold oSym
  by_cases h : c = 4 ∧ a = sy
  · rw [if_pos (show c = 4 ∧ a = oP g st sy rl 2 1 0 from h), h.1, h.2]; rfl
  · rw [if_neg (show ¬ (c = 4 ∧ a = oP g st sy rl 2 1 0) from h)]
    by_cases h2 : c = 2 ∧ a = 1 ∧ k = 0
    · rw [if_pos h2, h2.1, h2.2.1, h2.2.2]; rfl
    · rw [if_neg h2]; exact oP_ne1 h2
theorem oP_st : oStart (oP g st sy rl) (r2 g (fR g 4 + 2 * st)) = oP g (st + 1) sy rl := by
  funext c a k
  unfold oStart
  by_cases h2 : c = 2 ∧ a = 0 ∧ k = 0
  · rw [ou_pos h2, h2.1, h2.2.1, h2.2.2]; rfl
  · rw [ou_neg h2]
    by_cases h : c = 3 ∧ a = st ∧ k = 0
    · rw [ou_pos (show c = 3 ∧ a = oP g st sy rl 2 0 0 ∧ k = 0 from h), h.1, h.2.1]; rfl
    · rw [ou_neg (show ¬ (c = 3 ∧ a = oP g st sy rl 2 0 0 ∧ k = 0) from h)]; exact oP_ne0 h2
theorem oP_rel : oRel (oP g st sy rl) (mRw g (sOf g rl) (pOf g rl)) = oP g st sy (rl + 1) := by
  funext c a k
  unfold oRel
  by_cases h : c = 5 ∧ a = rl
  · rw [if_pos (show c = 5 ∧ a = oP g st sy rl 2 2 0 from h), h.1, h.2]; rfl
  · rw [if_neg (show ¬ (c = 5 ∧ a = oP g st sy rl 2 2 0) from h)]
    by_cases h2 : c = 2 ∧ a = 2 ∧ k = 0
    · rw [if_pos h2, h2.1, h2.2.1, h2.2.2]; rfl
    · rw [if_neg h2]; exact oP_ne2 h2
/-- ahead of the symbols it is one -/
theorem vP0 (h : Pr g n) : vOb (oP g 0 0 0) := by
  refine ⟨fun x x0 x1 => ?_, fun x k x0 x1 k0 k1 => ?_, ⟨by rw [oP_20]; omega, by rw [oP_20]; omega, by rw [oP_21]; omega, by rw [oP_21]; omega, by rw [oP_22]; omega, by rw [oP_22]; omega⟩, fun k k0 k1 => by rw [oP_20] at k1; omega, fun k k0 k1 => by rw [oP_21] at k1; omega, fun k k0 k1 => by rw [oP_22] at k1; omega⟩
  · rw [oP_10, oP_11]
    refine ⟨?_, ?_, aRd_pw h _⟩
    · by_cases c : x = 3
      · subst c; exact h.part3.1
      · exact (h.part (by omega)).2.1
    · by_cases c : x = 3
      · subst c; rw [if_pos rfl]; exact h.part3.2
      · rw [if_neg c]; exact h.sec (by omega)
  · rw [oP_10] at k1
    obtain ⟨p1, p2, p3, p4, -⟩ := h.part (k := x.toNat) (by omega)
    rw [oP_0]
    exact h.2.2.2.2.2.1 _ (by omega) (by omega)
end jRval
