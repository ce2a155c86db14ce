/-! the twin's expressions: its state, small steps -/
section jTexpr2
variable {s t u w v' : jS} {U n p p' q r k c f v y e d o z a a' b' pl : Int} {g : Int → Int} {l m : List Int} {NL : List (List Int)} {W : wR4} {st st' : pS} {I L L1 L2 : pI} {S S' : List Int}
theorem wd1_sg (hb : byG g n) (r0 : 0 ≤ r) (r1 : r ≤ n) (h : (wd1 g n r).1 = 5) : (wd1 g n r).2.1 < 258 := by
  unfold wd1 at h ⊢
  by_cases c0 : bt g n r = 10 ∨ bt g n r = -1
  · rw [if_pos c0] at h; exact absurd h (by show ¬ (0 : Int) = 5; decide)
  rw [if_neg c0] at h ⊢
  by_cases c1 : isBg (bt g n r)
  · rw [cif_pos c1] at h
    unfold wdI at h
    split at h
    · exact absurd h (by show ¬ (6 : Int) = 5; decide)
    split at h
    · exact absurd h (by show ¬ (7 : Int) = 5; decide)
    · exact absurd h (by show ¬ (1 : Int) = 5; decide)
  rw [cif_neg c1] at h ⊢
  by_cases c2 : isDg (bt g n r)
  · rw [cif_pos c2] at h
    exfalso
    unfold wdN at h
    split at h
    · have := wdG_nm (g := g) (n := n) (r := r) (f := r + 2) (e := 16); omega
    split at h
    · have := wdG_nm (g := g) (n := n) (r := r) (f := r + 2) (e := 2); omega
    by_cases c3 : (bt g n (r + 1) = 98 ∨ bt g n (r + 1) = 102) ∧ ¬ isIn (bt g n (r + 2))
    · rw [cif_pos c3] at h; exact absurd h (by show ¬ (3 : Int) = 5; decide)
    · rw [cif_neg c3] at h; have := wdG_nm (g := g) (n := n) (r := r) (f := r) (e := 10); omega
  rw [cif_neg c2] at h ⊢
  split at h
  · exfalso
    unfold wdC at h
    by_cases c3 : inOK g n (r + 1) 39 ∧ bt g n (inT g n (r + 1)) = 39
    · rw [cif_pos c3] at h; exact absurd h (by show ¬ (2 : Int) = 5; decide)
    · rw [cif_neg c3] at h; exact absurd h (by show ¬ (6 : Int) = 5; decide)
  rename_i x39
  rw [if_neg x39]
  split at h
  · exfalso
    unfold wdS at h
    split at h
    · exact absurd h (by show ¬ (4 : Int) = 5; decide)
    · exact absurd h (by show ¬ (6 : Int) = 5; decide)
  rename_i x34
  rw [if_neg x34]
  unfold wdY at h ⊢
  split
  · show (if bt g n r = 60 then (256 : Int) else 257) < 258
    split <;> omega
  · rename_i z
    rw [if_neg z] at h
    by_cases c3 : sgOK (bt g n r)
    · rw [cif_pos c3]; have := bt_lo (k := r) hb r0; show bt g n r < 258; omega
    · rw [cif_neg c3] at h; exact absurd h (by show ¬ (6 : Int) = 5; decide)
theorem wd_sg (hb : byG g n) (p0 : 0 ≤ p) (p1 : p ≤ n) (h : (wd g n p).1 = 5) : (wd g n p).2.1 < 258 := by
  obtain ⟨⟨s1, s2, s3⟩, s4⟩ := up_to (g := g) (n := n) (P := spP) (by unfold spP; omega) p1
  unfold wd at h ⊢
  generalize up g n spP p = q0 at *
  by_cases c : bt g n q0 = 35
  · rw [if_pos c] at h ⊢
    obtain ⟨⟨d1, d2, d3⟩, d4⟩ := up_to (g := g) (n := n) (P := cmP) (p := q0) (by unfold cmP; omega) s4
    generalize up g n cmP q0 = q1 at *
    by_cases c2 : bt g n q1 = 10 ∨ bt g n q1 = -1
    · rw [if_pos c2] at h ⊢; exact wd1_sg hb (by omega) d4 h
    · rw [if_neg c2] at h; exact absurd h (by show ¬ (6 : Int) = 5; decide)
  · rw [if_neg c] at h ⊢; exact wd1_sg hb (by omega) s4 h
/-- what is written while an expression is read -/
def yE (t w : jS) (U : Int) : Prop := jSm t w ∧ ∀ c a k, ¬ (c = 43 ∧ a = U ∧ (k = 11 ∨ 15 ≤ k ∧ k ≤ 18 ∨ 20 ≤ k ∧ k ≤ 21 ∨ 23 ≤ k ∧ k ≤ 27)) → ¬ (c = 1000 ∧ (a = U + 15 ∨ a = U + 10 ∨ a = U + 6 ∧ k < 4000 ∨ a = U + 7 ∧ k < 2400 ∨ a = U + 8 ∧ k < 150)) → ¬ (c = 1000 ∧ a = U + 3 ∧ (k = 2 ∨ k = 3)) → jf w c a k = jf t c a k
theorem yE.rfl : yE t t U := ⟨jSm.rfl, fun _ _ _ _ _ _ => Eq.refl _⟩
theorem yE.trans (h : yE t u U) (k : yE u w U) : yE t w U := ⟨jSm.trans h.1 k.1, fun c a j z z1 z2 => (k.2 c a j z z1 z2).trans (h.2 c a j z z1 z2)⟩
theorem yE.rd (h : yE t u U) (k : yRd u w U) : yE t w U := ⟨jSm.trans h.1 k.1, fun c a j z z1 z2 => (k.2 c a j (fun q => z ⟨q.1, q.2.1, by omega⟩) (fun q => z1 ⟨q.1, .inl q.2⟩)).trans (h.2 c a j z z1 z2)⟩
theorem yE.slt (h : yE t u U) (hk : k = 11 ∨ 15 ≤ k ∧ k ≤ 18 ∨ 20 ≤ k ∧ k ≤ 21 ∨ 23 ≤ k ∧ k ≤ 27) : yE t (jp u 43 U k v) U := ⟨h.1.jp, fun c a j z z1 z2 => by rw [jf_neg (fun q => z ⟨q.1, q.2.1, by rw [q.2.2]; exact hk⟩)]; exact h.2 c a j z z1 z2⟩
theorem yE.row (h : yE t u U) (ha : a = U + 15 ∨ a = U + 10 ∨ a = U + 6 ∧ k < 4000 ∨ a = U + 7 ∧ k < 2400 ∨ a = U + 8 ∧ k < 150) : yE t (jp u 1000 a k v) U := ⟨h.1.jp, fun c a' j z z1 z2 => by rw [jf_neg (fun q => z1 ⟨q.1, by rw [q.2.1, q.2.2]; exact ha⟩)]; exact h.2 c a' j z z1 z2⟩
theorem yE.cnt (h : yE t u U) (hk : k = 2 ∨ k = 3) : yE t (jp u 1000 (U + 3) k v) U := ⟨h.1.jp, fun c a' j z z1 z2 => by rw [jf_neg (fun q => z2 ⟨q.1, q.2.1, by rw [q.2.2]; exact hk⟩)]; exact h.2 c a' j z z1 z2⟩
theorem tdI.ke (h : tdI t U g n) (k : yE t w U) : tdI w U g n := ⟨by rw [k.2 _ _ _ (by omega) (by omega) (by omega)]; exact h.1, fun j j0 j1 => by rw [k.2 _ _ _ (by omega) (by omega) (by omega)]; exact h.2.1 j j0 j1, h.2.2⟩
/-- the stack of signs: how many are no brackets, brackets, not binary -/
def sN : List Int → Int
  | [] => 0
  | o :: S => (if o = 1 then 0 else 1) + sN S
def sO : List Int → Int
  | [] => 0
  | o :: S => (if o = 1 then 1 else 0) + sO S
def sD : List Int → Int
  | [] => 0
  | o :: S => (if o ≤ 11 then 1 else 0) + sD S
theorem sN_lo : ∀ S : List Int, 0 ≤ sN S
  | [] => Int.le_refl 0
  | o :: S => by have := sN_lo S; show 0 ≤ (if o = 1 then (0 : Int) else 1) + sN S; split <;> omega
theorem sO_lo : ∀ S : List Int, 0 ≤ sO S ∧ sO S ≤ sD S ∧ (S.length : Int) = sN S + sO S ∧ sD S ≤ S.length
  | [] => ⟨Int.le_refl 0, Int.le_refl 0, rfl, Int.le_refl 0⟩
  | o :: S => by
    obtain ⟨h1, h2, h3, h4⟩ := sO_lo S
    have e1 : sO (o :: S) = (if o = 1 then 1 else 0) + sO S := rfl
    have e2 : sD (o :: S) = (if o ≤ 11 then 1 else 0) + sD S := rfl
    have e3 : sN (o :: S) = (if o = 1 then 0 else 1) + sN S := rfl
    have e4 : ((o :: S).length : Int) = S.length + 1 := by simp
    rw [e1, e2, e3, e4]
    split <;> split <;> omega
def stk (t : jS) (U : Int) : List Int → Prop
  | [] => True
  | o :: S => (jf t 1000 (U + 10) S.length = o ∧ o ≤ 21) ∧ stk t U S
theorem stk.kp : ∀ {S : List Int}, stk t U S → (∀ k, k < (S.length : Int) → jf w 1000 (U + 10) k = jf t 1000 (U + 10) k) → stk w U S
  | [], _, _ => trivial
  | o :: S, h, k => ⟨⟨by rw [k _ (by simp; omega)]; exact h.1.1, h.1.2⟩, stk.kp h.2 fun j hj => k j (by simp; omega)⟩
def itR (t : jS) (U : Int) (I : pI) : Prop := jf t 1000 (U + 3) 2 = I.length ∧ ∀ i : Nat, i < I.length → jf t 1000 (U + 6) (2 * i) = (I.getD i (0, 0)).1 ∧ jf t 1000 (U + 6) (2 * i + 1) = (I.getD i (0, 0)).2
def nmR (t : jS) (U : Int) (NL : List (List Int)) : Prop := jf t 1000 (U + 3) 3 = NL.length ∧ NL.length ≤ 150 ∧ ∀ i : Nat, i < NL.length → (NL.getD i []).length ≤ 16 ∧ jf t 1000 (U + 8) i = (NL.getD i []).length ∧ ∀ j : Nat, j < (NL.getD i []).length → jf t 1000 (U + 7) (16 * i + j) = (NL.getD i []).getD j 0
/-- the twin's reader, as the pure one has it -/
def tR (t : jS) (U : Int) (g : Int → Int) (n : Int) (st : pS) (I : pI) (S : List Int) : Prop := tdI t U g n ∧ tkS t U g n (wd g n st.1) ∧ (0 ≤ st.1 ∧ st.1 ≤ n) ∧ jf t 43 U 20 = 0 ∧ nmR t U st.2.1 ∧ (jf t 43 U 24 = st.2.2.1 ∧ jf t 43 U 25 = st.2.2.2 ∧ 0 ≤ st.2.2.2 ∧ st.2.2.2 ≤ st.2.2.1 ∧ st.2.2.1 ≤ 2000) ∧ itR t U I ∧ (jf t 43 U 23 = S.length ∧ stk t U S ∧ jf t 43 U 27 = sO S ∧ jf t 43 U 26 = 1 + sD S ∧ sO S ≤ 30) ∧ I.length + sN S ≤ st.2.2.1
/-- a fault is told -/
def tFl (t w : jS) (U f pl : Int) : Prop := yE t w U ∧ jf w 43 U 20 = f ∧ jf w 43 U 21 = pl
theorem tFl.after (h : tFl u w U f pl) (k : yE t u U) : tFl t w U f pl := ⟨k.trans h.1, h.2⟩
theorem y_fail (h : tkS t U g n W) (h20 : jf t 43 U 20 = 0) : ∃ w, m_X39_fail t U f = some (w, 0) ∧ tFl t w U (if W.1 = 6 then W.2.1 else f) W.2.2.1 := by
  rw [em_X39_fail]; unfold dm_X39_fail
  rw [if_pos h20]
  have e27 : ∀ y, ∃ w, u_X39_fail_27 t U y U = some (w, 0) ∧ tFl t w U y W.2.2.1 := fun y => by
    rw [eu_X39_fail_27]; unfold du_X39_fail_27
    simp only [jls]
    rw [Wz_0, jf_neg (by omega), h.2.1]
    exact ⟨_, rfl, (yE.rfl.slt (by omega)).slt (by omega), by (repeat (first | rw [jf_neg (by omega)] | rw [jf_pos (by omega)] | rw [ou_neg (by omega)] | rw [ou_pos (by omega)])), by (repeat (first | rw [jf_neg (by omega)] | rw [jf_pos (by omega)] | rw [ou_neg (by omega)] | rw [ou_pos (by omega)]))⟩
  by_cases c : W.1 = 6
  · rw [if_pos (h.1.trans c), if_pos c, h.2.2.1 c]; exact e27 _
  · rw [if_neg (fun z => c (h.1.symm.trans z)), if_neg c]; exact e27 _
theorem y_tally (T : tR t U g n st I S) : if st.2.2.1 = 2000 ∨ st.2.2.2 = 60 then ∃ w, m_X39_tally t U = some (w, 0) ∧ tFl t w U (if (wd g n st.1).1 = 6 then (wd g n st.1).2.1 else 8) (wd g n st.1).2.2.1 else ∃ w, m_X39_tally t U = some (w, 1) ∧ tR w U g n (st.1, st.2.1, st.2.2.1 + 1, st.2.2.2 + 1) I S ∧ yE t w U ∧ jf w 43 U 15 = jf t 43 U 15 ∧ jf w 43 U 16 = jf t 43 U 16 ∧ I.length + sN S + 1 ≤ st.2.2.1 + 1 := by
  obtain ⟨T1, T2, T3, T4, T5, ⟨c1, c2, c3, c4, c5⟩, T7, T8, T9⟩ := T
  rw [em_X39_tally]; unfold dm_X39_tally
  have e19 : ∃ w, u_X39_tally_19 t U = some (w, 0) ∧ tFl t w U (if (wd g n st.1).1 = 6 then (wd g n st.1).2.1 else 8) (wd g n st.1).2.2.1 := by
    rw [eu_X39_tally_19]; unfold du_X39_tally_19
    obtain ⟨w, e, h⟩ := y_fail (f := 8) T2 T4
    exact ⟨w, by rw [e, Option.bind_some, Wz_0], h⟩
  rw [c1, c2]
  by_cases k1 : st.2.2.1 = 2000
  · rw [if_pos k1, if_pos (.inl k1)]; exact e19
  by_cases k2 : st.2.2.2 = 60
  · rw [if_neg k1, if_pos k2, if_pos (.inr k2)]; exact e19
  rw [if_neg k1, if_neg k2, if_neg (fun z => z.elim k1 k2)]
  simp only [jls]
  rw [Wz_1, jf_neg (by omega), c2, W32_in (by omega) (by omega), W32_in (by omega) (by omega)]
  have K : yE t (jp (jp t 43 U 24 (st.2.2.1 + 1)) 43 U 25 (st.2.2.2 + 1)) U := (yE.rfl.slt (by omega)).slt (by omega)
  have F : ∀ c a j, ¬ (c = 43 ∧ a = U ∧ (j = 24 ∨ j = 25)) → jf (jp (jp t 43 U 24 (st.2.2.1 + 1)) 43 U 25 (st.2.2.2 + 1)) c a j = jf t c a j := fun c a j h => by rw [jf_neg (by omega), jf_neg (by omega)]
  refine ⟨_, rfl, ⟨T1.ke K, ?_, T3, by rw [F _ _ _ (by omega)]; exact T4, ?_, ⟨by (repeat (first | rw [jf_neg (by omega)] | rw [jf_pos (by omega)] | rw [ou_neg (by omega)] | rw [ou_pos (by omega)])), by (repeat (first | rw [jf_neg (by omega)] | rw [jf_pos (by omega)] | rw [ou_neg (by omega)] | rw [ou_pos (by omega)])), by show 0 ≤ st.2.2.2 + 1; omega, by show st.2.2.2 + 1 ≤ st.2.2.1 + 1; omega, by show st.2.2.1 + 1 ≤ 2000; omega⟩, ?_, ⟨by rw [F _ _ _ (by omega)]; exact T8.1, T8.2.1.kp fun j _ => F _ _ _ (by omega), by rw [F _ _ _ (by omega)]; exact T8.2.2.1, by rw [F _ _ _ (by omega)]; exact T8.2.2.2.1, T8.2.2.2.2⟩, by show I.length + sN S ≤ st.2.2.1 + 1; omega⟩, K, F _ _ _ (by omega), F _ _ _ (by omega), by omega⟩
  · unfold tkS at T2 ⊢
    rw [F _ _ _ (by omega), F _ _ _ (by omega), F _ _ _ (by omega), F _ _ _ (by omega), F _ _ _ (by omega)]
    exact ⟨T2.1, T2.2.1, T2.2.2.1, T2.2.2.2.1, T2.2.2.2.2.1, T2.2.2.2.2.2.1, fun z => ⟨(T2.2.2.2.2.2.2 z).1, fun j hj => by rw [F _ _ _ (by omega)]; exact (T2.2.2.2.2.2.2 z).2 j hj⟩⟩
  · exact ⟨by rw [F _ _ _ (by omega)]; exact T5.1, T5.2.1, fun i hi => ⟨(T5.2.2 i hi).1, by rw [F _ _ _ (by omega)]; exact (T5.2.2 i hi).2.1, fun j hj => by rw [F _ _ _ (by omega)]; exact (T5.2.2 i hi).2.2 j hj⟩⟩
  · exact ⟨by rw [F _ _ _ (by omega)]; exact T7.1, fun i hi => by rw [F _ _ _ (by omega), F _ _ _ (by omega)]; exact T7.2 i hi⟩
end jTexpr2
