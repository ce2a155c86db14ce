/-! jumps, services, and the end of a word -/
section jMserve
variable {s t : jS} {M U : Int}
/-- the numbers that a word leaves alone -/
def Wg (s : jS) (M : Int) (t : jS) (U : Int) (s' t' : jS) : Prop := (∀ x, x = 14 ∨ x = 15 ∨ x = 20 ∨ x = 21 → jf s' 33 M x = jf s 33 M x) ∧ ∀ x, x = 20 ∨ x = 21 → jf t' 47 U x = jf t 47 U x
theorem Wg.rfl : Wg s M t U s t := ⟨fun _ _ => Eq.refl _, fun _ _ => Eq.refl _⟩
theorem Wg.trans {s' t' s2 t2 : jS} (h : Wg s M t U s' t') (g : Wg s' M t' U s2 t2) : Wg s M t U s2 t2 := ⟨fun x q => (g.1 x q).trans (h.1 x q), fun x q => (g.2 x q).trans (h.2 x q)⟩
theorem Wg.of {s' t' : jS} (h : jf s' 33 = jf s 33) (g : jf t' 47 = jf t 47) : Wg s M t U s' t' := ⟨fun _ _ => by rw [h], fun _ _ => by rw [g]⟩
/-- what a word leaves -/
def WE (s : jS) (M : Int) (t : jS) (U n k u : Int) (a b : jS × Int) : Prop := Wk a.1 M b.1 U n k u ∧ Wf s M t U a.1 b.1 ∧ Wg s M t U a.1 b.1
theorem WE.of {s0 t0 : jS} {n k u : Int} {a b : jS × Int} (h : WE s M t U n k u a b) (f : Wf s0 M t0 U s t) (g : Wg s0 M t0 U s t) : WE s0 M t0 U n k u a b := ⟨h.1, f.trans h.2.1, g.trans h.2.2⟩
theorem W32_ev {x : Int} (h : x % 2 = 0) : W32 x % 2 = 0 := by
  have := W32_mod x
  omega
theorem I_ev (x : Int) : I_and x (-2) % 2 = 0 := by
  have e := I_and_1 (I_and x (-2))
  have : I_and (I_and x (-2)) 1 = 0 := by
    rw [I_and_eq, i_and_bv, i_and_bv, BitVec.ofInt_toInt, BitVec.and_assoc]
    have : (BitVec.ofInt 32 (-2) &&& BitVec.ofInt 32 1) = 0#32 := by decide
    rw [this, BitVec.and_zero]
    decide
  omega
theorem bv_lo (x : BitVec 32) : -2147483648 ≤ x.toInt ∧ x.toInt ≤ 2147483647 := by
  have h1 := BitVec.toInt_lt (x := x)
  have h2 := BitVec.le_toInt (x := x)
  have e : (2 : Int) ^ 32 = 4294967296 := rfl
  omega
theorem I_and_b (x y : Int) : -2147483648 ≤ I_and x y ∧ I_and x y ≤ 2147483647 := by rw [I_and_eq, i_and_bv]; exact bv_lo _
theorem I_or_b (x y : Int) : -2147483648 ≤ I_or x y ∧ I_or x y ≤ 2147483647 := by rw [I_or_eq, i_or_bv]; exact bv_lo _
theorem I_xor_b (x y : Int) : -2147483648 ≤ I_xor x y ∧ I_xor x y ≤ 2147483647 := by rw [I_xor_eq, i_xor_bv]; exact bv_lo _
theorem p_jump {to n k u : Int} (h : Wk s M t U n k u) (hto : -2147483648 ≤ to ∧ to ≤ 2147483647) (hev : to % 2 = 0) (hj : jf t 47 U 28 = 1) (ht : jf t 47 U 27 = to) (h0 : jf t 47 U 17 = 0) : jE2 (m_X29_jumps s M to) (u_X43_work_336 t U) (WE s M t U n k u) := by
  obtain ⟨⟨hK, hP, hMem, hMark, hSeg, hReg, hIn, hOut, hHalt, hSc, hRing⟩, hnow, h23⟩ := h
  rw [em_X29_jumps]; unfold dm_X29_jumps
  have hM0 := hK.1
  simp only [eu_X43_work_336, du_X43_work_336, eu_X43_work_368, du_X43_work_368, jls, h0, hj, ht, if_true, show ((1 : Int) = 0) = False by simp, if_false]
  have e9 : jf (jp s 33 M 10 to) 33 M 9 = jf t 47 U 7 := by
    have := hSc.1
    rw [aC_x _ _ _ _ _ (by decide) (by decide) (by decide)] at this
    simp only [eq_self, or_true, true_or, or_false, false_or, jfc_jp, jupp_p, jup_a, Int.add_right_inj, Int.add_left_inj, Int.reduceEq, if_true, if_false, true_and, and_true, false_and, and_false, reduceIte]; exact this
  have e7 : jf (jp t 47 U 11 to) 47 U 7 = jf t 47 U 7 := by simp only [eq_self, or_true, true_or, or_false, false_or, jfc_jp, jupp_p, jup_a, Int.add_right_inj, Int.add_left_inj, Int.reduceEq, if_true, if_false, true_and, and_true, false_and, and_false, reduceIte]
  have e28 : jf (jp t 47 U 11 to) 47 U 28 = 1 := by simp only [eq_self, or_true, true_or, or_false, false_or, jfc_jp, jupp_p, jup_a, Int.add_right_inj, Int.add_left_inj, Int.reduceEq, if_true, if_false, true_and, and_true, false_and, and_false, reduceIte]; exact hj
  have e27 : jf (jp t 47 U 11 to) 47 U 27 = to := by simp only [eq_self, or_true, true_or, or_false, false_or, jfc_jp, jupp_p, jup_a, Int.add_right_inj, Int.add_left_inj, Int.reduceEq, if_true, if_false, true_and, and_true, false_and, and_false, reduceIte]; exact ht
  simp only [e9, e7, e28, e27, show ((1 : Int) = 0) = False by simp, if_false]
  have W1 : Wk (jp s 33 M 10 to) M (jp t 47 U 11 to) U n k u := by
    refine ⟨?_, ?_, ?_⟩
    · unfold MrG; simp only [eq_self, or_true, true_or, or_false, false_or, jfc_jp, jupp_p, jup_a, Int.add_right_inj, Int.add_left_inj, Int.reduceEq, if_true, if_false, true_and, and_true, false_and, and_false, reduceIte]; rw [aC_upd _ _ _ _ _ _ (by decide) (by decide) (by decide)]
      refine ⟨hK, hP.at (by simp only [eq_self, or_true, true_or, or_false, false_or, jfc_jp, jupp_p, jup_a, Int.add_right_inj, Int.add_left_inj, Int.reduceEq, if_true, if_false, true_and, and_true, false_and, and_false, reduceIte]), hMem, hMark, hSeg, hReg, (by unfold MrIn at *; simp only [eq_self, or_true, true_or, or_false, false_or, jfc_jp, jupp_p, jup_a, Int.add_right_inj, Int.add_left_inj, Int.reduceEq, if_true, if_false, true_and, and_true, false_and, and_false, reduceIte]; exact hIn), hOut, (by unfold MrHalt at *; simp only [eq_self, or_true, true_or, or_false, false_or, jfc_jp, jupp_p, jup_a, Int.add_right_inj, Int.add_left_inj, Int.reduceEq, if_true, if_false, true_and, and_true, false_and, and_false, reduceIte]; exact hHalt), (by unfold MrSc at *; simp only [eq_self, or_true, true_or, or_false, false_or, jfc_jp, jupp_p, jup_a, Int.add_right_inj, Int.add_left_inj, Int.reduceEq, if_true, if_false, true_and, and_true, false_and, and_false, reduceIte]; omega), (by unfold MrRing at *; simp only [eq_self, or_true, true_or, or_false, false_or, jfc_jp, jupp_p, jup_a, Int.add_right_inj, Int.add_left_inj, Int.reduceEq, if_true, if_false, true_and, and_true, false_and, and_false, reduceIte]; exact hRing)⟩
    · simp only [eq_self, or_true, true_or, or_false, false_or, jfc_jp, jupp_p, jup_a, Int.add_right_inj, Int.add_left_inj, Int.reduceEq, if_true, if_false, true_and, and_true, false_and, and_false, reduceIte]; exact hnow
    · simp only [eq_self, or_true, true_or, or_false, false_or, jfc_jp, jupp_p, jup_a, Int.add_right_inj, Int.add_left_inj, Int.reduceEq, if_true, if_false, true_and, and_true, false_and, and_false, reduceIte]; exact h23
  have F1 : Wf s M t U (jp s 33 M 10 to) (jp t 47 U 11 to) := ⟨by (repeat' (first | exact jFm.rfl | refine jFm.jp ?_ (by omega) (by omega))), by (repeat' (first | exact jFm.rfl | refine jFm.jp ?_ (by omega) (by omega))), by simp only [eq_self, or_true, true_or, or_false, false_or, jfc_jp, jupp_p, jup_a, Int.add_right_inj, Int.add_left_inj, Int.reduceEq, if_true, if_false, true_and, and_true, false_and, and_false, reduceIte], by simp only [eq_self, or_true, true_or, or_false, false_or, jfc_jp, jupp_p, jup_a, Int.add_right_inj, Int.add_left_inj, Int.reduceEq, if_true, if_false, true_and, and_true, false_and, and_false, reduceIte]⟩
  have G1 : Wg s M t U (jp s 33 M 10 to) (jp t 47 U 11 to) := ⟨fun x q => by rw [jf_jp, if_neg (by omega)], fun x q => by rw [jf_jp, if_neg (by omega)]⟩
  refine jE2_ite Iff.rfl (fun _ => jE2_some.mpr ⟨W1, F1, G1⟩) (fun c => ?_)
  rw [e_X43_bare, Option.bind_some, L_and_4294967295]
  refine jE2_call (p_isMarked W1.1.2.2.2.1 hev (by omega)) fun x y ⟨e, _⟩ => ?_
  subst e
  refine jE2_ite Iff.rfl (fun _ => ?_) (fun _ => jE2_some.mpr ⟨W1, F1, G1⟩)
  rw [s_fails, s_fail, Option.bind_some, Option.bind_some]
  refine jE2_some.mpr ⟨⟨?_, ?_, ?_⟩, ⟨?_, ?_, ?_, ?_⟩, ?_, ?_⟩
  · unfold MrG; simp only [eq_self, or_true, true_or, or_false, false_or, jfc_jp, jupp_p, jup_a, Int.add_right_inj, Int.add_left_inj, Int.reduceEq, if_true, if_false, true_and, and_true, false_and, and_false, reduceIte]; rw [aC_upd _ _ _ _ _ _ (by decide) (by decide) (by decide), aC_upd _ _ _ _ _ _ (by decide) (by decide) (by decide), aC_upd _ _ _ _ _ _ (by decide) (by decide) (by decide)]
    refine ⟨hK, hP.at (by simp only [eq_self, or_true, true_or, or_false, false_or, jfc_jp, jupp_p, jup_a, Int.add_right_inj, Int.add_left_inj, Int.reduceEq, if_true, if_false, true_and, and_true, false_and, and_false, reduceIte]), hMem, hMark, hSeg, hReg, (by unfold MrIn at *; simp only [eq_self, or_true, true_or, or_false, false_or, jfc_jp, jupp_p, jup_a, Int.add_right_inj, Int.add_left_inj, Int.reduceEq, if_true, if_false, true_and, and_true, false_and, and_false, reduceIte]; exact hIn), hOut, (by unfold MrHalt at *; simp only [eq_self, or_true, true_or, or_false, false_or, jfc_jp, jupp_p, jup_a, Int.add_right_inj, Int.add_left_inj, Int.reduceEq, if_true, if_false, true_and, and_true, false_and, and_false, reduceIte]; exact hHalt), (by unfold MrSc at *; simp only [eq_self, or_true, true_or, or_false, false_or, jfc_jp, jupp_p, jup_a, Int.add_right_inj, Int.add_left_inj, Int.reduceEq, if_true, if_false, true_and, and_true, false_and, and_false, reduceIte]; omega), (by unfold MrRing at *; simp only [eq_self, or_true, true_or, or_false, false_or, jfc_jp, jupp_p, jup_a, Int.add_right_inj, Int.add_left_inj, Int.reduceEq, if_true, if_false, true_and, and_true, false_and, and_false, reduceIte]; exact hRing)⟩
  · simp only [eq_self, or_true, true_or, or_false, false_or, jfc_jp, jupp_p, jup_a, Int.add_right_inj, Int.add_left_inj, Int.reduceEq, if_true, if_false, true_and, and_true, false_and, and_false, reduceIte]; exact hnow
  · simp only [eq_self, or_true, true_or, or_false, false_or, jfc_jp, jupp_p, jup_a, Int.add_right_inj, Int.add_left_inj, Int.reduceEq, if_true, if_false, true_and, and_true, false_and, and_false, reduceIte]; exact h23
  · (repeat' (first | exact jFm.rfl | refine jFm.jp ?_ (by omega) (by omega)))
  · (repeat' (first | exact jFm.rfl | refine jFm.jp ?_ (by omega) (by omega)))
  · simp only [eq_self, or_true, true_or, or_false, false_or, jfc_jp, jupp_p, jup_a, Int.add_right_inj, Int.add_left_inj, Int.reduceEq, if_true, if_false, true_and, and_true, false_and, and_false, reduceIte]
  · simp only [eq_self, or_true, true_or, or_false, false_or, jfc_jp, jupp_p, jup_a, Int.add_right_inj, Int.add_left_inj, Int.reduceEq, if_true, if_false, true_and, and_true, false_and, and_false, reduceIte]
  · intro x q; rw [jf_jp, if_neg (by omega), jf_jp, if_neg (by omega), jf_jp, if_neg (by omega)]
  · intro x q; rw [jf_jp, if_neg (by omega), jf_jp, if_neg (by omega), jf_jp, if_neg (by omega)]
/-- on to the next word -/
theorem p_plain {a n k u : Int} (h : Wk s M t U n k u) (ha : a = W32 (jf t 47 U 11 + jf t 47 U 25)) (hb : jf t 47 U 25 = 2 ∨ jf t 47 U 25 = 4) (hj : jf t 47 U 28 = 0) (h0 : jf t 47 U 17 = 0) : jE2 (some (jp s 33 M 10 a, (0 : Int))) (u_X43_work_336 t U) (WE s M t U n k u) := by
  obtain ⟨⟨hK, hP, hMem, hMark, hSeg, hReg, hIn, hOut, hHalt, hSc, hRing⟩, hnow, h23⟩ := h
  have hM0 := hK.1
  have e28 : jf (jp t 47 U 11 a) 47 U 28 = 0 := by simp only [eq_self, or_true, true_or, or_false, false_or, jfc_jp, jupp_p, jup_a, Int.add_right_inj, Int.add_left_inj, Int.reduceEq, if_true, if_false, true_and, and_true, false_and, and_false, reduceIte]; exact hj
  have har : -2147483648 ≤ a ∧ a ≤ 2147483647 := by rw [ha]; exact W32_lo _
  have hae : a % 2 = 0 := by
    rw [ha]
    have := hSc.2.2.1.2.2
    exact W32_ev (by omega)
  simp only [eu_X43_work_336, du_X43_work_336, eu_X43_work_368, du_X43_work_368, jls, h0, hj, if_true, ← ha, e28]
  refine jE2_some.mpr ⟨⟨?_, ?_, ?_⟩, ⟨?_, ?_, ?_, ?_⟩, ?_, ?_⟩
  · unfold MrG; simp only [eq_self, or_true, true_or, or_false, false_or, jfc_jp, jupp_p, jup_a, Int.add_right_inj, Int.add_left_inj, Int.reduceEq, if_true, if_false, true_and, and_true, false_and, and_false, reduceIte]; rw [aC_upd _ _ _ _ _ _ (by decide) (by decide) (by decide)]
    refine ⟨hK, hP.at (by simp only [eq_self, or_true, true_or, or_false, false_or, jfc_jp, jupp_p, jup_a, Int.add_right_inj, Int.add_left_inj, Int.reduceEq, if_true, if_false, true_and, and_true, false_and, and_false, reduceIte]), hMem, hMark, hSeg, hReg, (by unfold MrIn at *; simp only [eq_self, or_true, true_or, or_false, false_or, jfc_jp, jupp_p, jup_a, Int.add_right_inj, Int.add_left_inj, Int.reduceEq, if_true, if_false, true_and, and_true, false_and, and_false, reduceIte]; exact hIn), hOut, (by unfold MrHalt at *; simp only [eq_self, or_true, true_or, or_false, false_or, jfc_jp, jupp_p, jup_a, Int.add_right_inj, Int.add_left_inj, Int.reduceEq, if_true, if_false, true_and, and_true, false_and, and_false, reduceIte]; exact hHalt), (by unfold MrSc at *; simp only [eq_self, or_true, true_or, or_false, false_or, jfc_jp, jupp_p, jup_a, Int.add_right_inj, Int.add_left_inj, Int.reduceEq, if_true, if_false, true_and, and_true, false_and, and_false, reduceIte]; omega), (by unfold MrRing at *; simp only [eq_self, or_true, true_or, or_false, false_or, jfc_jp, jupp_p, jup_a, Int.add_right_inj, Int.add_left_inj, Int.reduceEq, if_true, if_false, true_and, and_true, false_and, and_false, reduceIte]; exact hRing)⟩
  · simp only [eq_self, or_true, true_or, or_false, false_or, jfc_jp, jupp_p, jup_a, Int.add_right_inj, Int.add_left_inj, Int.reduceEq, if_true, if_false, true_and, and_true, false_and, and_false, reduceIte]; exact hnow
  · simp only [eq_self, or_true, true_or, or_false, false_or, jfc_jp, jupp_p, jup_a, Int.add_right_inj, Int.add_left_inj, Int.reduceEq, if_true, if_false, true_and, and_true, false_and, and_false, reduceIte]; exact h23
  · (repeat' (first | exact jFm.rfl | refine jFm.jp ?_ (by omega) (by omega)))
  · (repeat' (first | exact jFm.rfl | refine jFm.jp ?_ (by omega) (by omega)))
  · simp only [eq_self, or_true, true_or, or_false, false_or, jfc_jp, jupp_p, jup_a, Int.add_right_inj, Int.add_left_inj, Int.reduceEq, if_true, if_false, true_and, and_true, false_and, and_false, reduceIte]
  · simp only [eq_self, or_true, true_or, or_false, false_or, jfc_jp, jupp_p, jup_a, Int.add_right_inj, Int.add_left_inj, Int.reduceEq, if_true, if_false, true_and, and_true, false_and, and_false, reduceIte]
  · intro x q; rw [jf_jp, if_neg (by omega)]
  · intro x q; rw [jf_jp, if_neg (by omega)]
/-- a word that ends the run -/
theorem p_stop {x n k u : Int} {y : Int} (h : Wk s M t U n k u) (hx : ¬ x = 0) (hy : y = jf t 47 U 11) : jE2 ((m_X29_fails s M x y).bind fun q => some (q.1, (0 : Int))) ((m_X43_fail t U x y).bind fun q => u_X43_work_336 q.1 U) (WE s M t U n k u) := by
  obtain ⟨⟨hK, hP, hMem, hMark, hSeg, hReg, hIn, hOut, hHalt, hSc, hRing⟩, hnow, h23⟩ := h
  have hM0 := hK.1
  rw [s_fails, s_fail, Option.bind_some, Option.bind_some]
  have e17 : jf (jp (jp t 47 U 17 x) 47 U 18 y) 47 U 17 = x := by simp only [eq_self, or_true, true_or, or_false, false_or, jfc_jp, jupp_p, jup_a, Int.add_right_inj, Int.add_left_inj, Int.reduceEq, if_true, if_false, true_and, and_true, false_and, and_false, reduceIte]
  simp only [eu_X43_work_336, du_X43_work_336, e17, if_neg hx]
  refine jE2_some.mpr ⟨⟨?_, ?_, ?_⟩, ⟨?_, ?_, ?_, ?_⟩, ?_, ?_⟩
  · unfold MrG; simp only [eq_self, or_true, true_or, or_false, false_or, jfc_jp, jupp_p, jup_a, Int.add_right_inj, Int.add_left_inj, Int.reduceEq, if_true, if_false, true_and, and_true, false_and, and_false, reduceIte]; rw [aC_upd _ _ _ _ _ _ (by decide) (by decide) (by decide), aC_upd _ _ _ _ _ _ (by decide) (by decide) (by decide)]
    refine ⟨hK, hP.at (by simp only [eq_self, or_true, true_or, or_false, false_or, jfc_jp, jupp_p, jup_a, Int.add_right_inj, Int.add_left_inj, Int.reduceEq, if_true, if_false, true_and, and_true, false_and, and_false, reduceIte]), hMem, hMark, hSeg, hReg, (by unfold MrIn at *; simp only [eq_self, or_true, true_or, or_false, false_or, jfc_jp, jupp_p, jup_a, Int.add_right_inj, Int.add_left_inj, Int.reduceEq, if_true, if_false, true_and, and_true, false_and, and_false, reduceIte]; exact hIn), hOut, (by unfold MrHalt at *; simp only [eq_self, or_true, true_or, or_false, false_or, jfc_jp, jupp_p, jup_a, Int.add_right_inj, Int.add_left_inj, Int.reduceEq, if_true, if_false, true_and, and_true, false_and, and_false, reduceIte]; exact hHalt), (by unfold MrSc at *; simp only [eq_self, or_true, true_or, or_false, false_or, jfc_jp, jupp_p, jup_a, Int.add_right_inj, Int.add_left_inj, Int.reduceEq, if_true, if_false, true_and, and_true, false_and, and_false, reduceIte]; omega), (by unfold MrRing at *; simp only [eq_self, or_true, true_or, or_false, false_or, jfc_jp, jupp_p, jup_a, Int.add_right_inj, Int.add_left_inj, Int.reduceEq, if_true, if_false, true_and, and_true, false_and, and_false, reduceIte]; exact hRing)⟩
  · simp only [eq_self, or_true, true_or, or_false, false_or, jfc_jp, jupp_p, jup_a, Int.add_right_inj, Int.add_left_inj, Int.reduceEq, if_true, if_false, true_and, and_true, false_and, and_false, reduceIte]; exact hnow
  · simp only [eq_self, or_true, true_or, or_false, false_or, jfc_jp, jupp_p, jup_a, Int.add_right_inj, Int.add_left_inj, Int.reduceEq, if_true, if_false, true_and, and_true, false_and, and_false, reduceIte]; exact h23
  · (repeat' (first | exact jFm.rfl | refine jFm.jp ?_ (by omega) (by omega)))
  · (repeat' (first | exact jFm.rfl | refine jFm.jp ?_ (by omega) (by omega)))
  · simp only [eq_self, or_true, true_or, or_false, false_or, jfc_jp, jupp_p, jup_a, Int.add_right_inj, Int.add_left_inj, Int.reduceEq, if_true, if_false, true_and, and_true, false_and, and_false, reduceIte]
  · simp only [eq_self, or_true, true_or, or_false, false_or, jfc_jp, jupp_p, jup_a, Int.add_right_inj, Int.add_left_inj, Int.reduceEq, if_true, if_false, true_and, and_true, false_and, and_false, reduceIte]
  · intro x q; rw [jf_jp, if_neg (by omega), jf_jp, if_neg (by omega)]
  · intro x q; rw [jf_jp, if_neg (by omega), jf_jp, if_neg (by omega)]
theorem MrOut.put {f g : Int → Int} {k v : Int} (h : MrOut f g) (h0 : 0 ≤ v) (h1 : v < 256) : MrOut (jup f k (sb v)) (jup g k v) := by
  intro j j0 j1
  simp only [jup_a]
  by_cases e : j = k
  · simp only [if_pos e]; exact ⟨h0, h1, True.intro⟩
  · simp only [if_neg e]; exact h j j0 j1
/-- put, then on -/
theorem p_put_plain {r v a n k u : Int} (h : Wk s M t U n k u) (h0 : 0 ≤ r) (h1 : r ≤ 31) (hv : -2147483648 ≤ v ∧ v ≤ 2147483647) (ha : a = W32 (jf t 47 U 11 + jf t 47 U 25)) (hb : jf t 47 U 25 = 2 ∨ jf t 47 U 25 = 4) (hj : jf t 47 U 28 = 0) (hz : jf t 47 U 17 = 0) :
    jE2 ((m_X29_put s M r v).bind fun q => some (jp q.1 33 M 10 a, (0 : Int))) ((m_X43_become t U r v).bind fun q => u_X43_work_336 q.1 U) (WE s M t U n k u) := by
  refine jE2_call (p_put h h0 h1 hv) fun x y ⟨w, f, g1, g2⟩ => ?_
  refine jE2_mono (p_plain w (by rw [g2]; exact ha) (by rw [g2]; exact hb) (by rw [g2]; exact hj) (by rw [g2]; exact hz)) fun _ _ q => q.of f (Wg.of g1 g2)
theorem p_serve {a n k u : Int} (h : Wk s M t U n k u) (ha : a = W32 (jf t 47 U 11 + jf t 47 U 25)) (hb : jf t 47 U 25 = 2 ∨ jf t 47 U 25 = 4) (hj : jf t 47 U 28 = 0) (hz : jf t 47 U 17 = 0) (hst : -2147483648 ≤ jf t 47 U 20 ∧ jf t 47 U 20 ≤ 2147483647) :
    jE2 (m_X29_serves s M a) ((m_X43_serve t U).bind fun q => u_X43_work_336 q.1 U) (WE s M t U n k u) := by
  have hh := h
  obtain ⟨⟨hK, hP, hMem, hMark, hSeg, hReg, hIn, hOut, hHalt, hSc, hRing⟩, hnow, h23⟩ := h
  have hM0 := hK.1
  have hS := hSc
  have hI := hIn
  unfold MrSc at hS
  unfold MrIn at hI
  simp only [aC_x _ _ _ _ 9 (by decide) (by decide) (by decide), aC_x _ _ _ _ 10 (by decide) (by decide) (by decide), aC_x _ _ _ _ 13 (by decide) (by decide) (by decide), aC_x _ _ _ _ 14 (by decide) (by decide) (by decide), aC_x _ _ _ _ 16 (by decide) (by decide) (by decide), aC_x _ _ _ _ 17 (by decide) (by decide) (by decide), aC_x _ _ _ _ 18 (by decide) (by decide) (by decide)] at hS hI
  obtain ⟨c9, c10, c11, _, _, c13, ⟨c14, _, _⟩, _, c17, d14, d14', c18, d16, d16'⟩ := hS
  have hr17 := hReg.1 17 (by omega) (by omega)
  have hr10 := hReg.1 10 (by omega) (by omega)
  rw [em_X29_serves, em_X43_serve]; unfold dm_X29_serves dm_X43_serve
  have x17 : jlt s 1000 (M + 4) 32 17 = some (jf s 1000 (M + 4) 17) := jlt_in (by omega) (by omega)
  have x10 : jlt s 1000 (M + 4) 32 10 = some (jf s 1000 (M + 4) 10) := jlt_in (by omega) (by omega)
  have y17 : jlt t 1000 (U + 9) 32 17 = some (jf t 1000 (U + 9) 17) := jlt_in (by omega) (by omega)
  have y10 : jlt t 1000 (U + 9) 32 10 = some (jf t 1000 (U + 9) 10) := jlt_in (by omega) (by omega)
  rw [x17, y17, Option.bind_some, Option.bind_some, hr17.1]
  generalize jf t 1000 (U + 9) 17 = z at *
  by_cases z1 : z = 1
  · rw [if_pos z1, if_pos z1, c18]
    by_cases c : jf t 47 U 16 < 2000
    · rw [if_pos c, if_pos c]
      simp only [em_X43_serve, dm_X43_serve, eu_X43_serve_237, du_X43_serve_237, eu_X43_serve_189, du_X43_serve_189, eu_X43_serve_163, du_X43_serve_163, eu_X43_serve_133, du_X43_serve_133, eu_X43_serve_118, du_X43_serve_118, eu_X43_serve_83, du_X43_serve_83, em_X29_serves, dm_X29_serves, eu_X29_serves_228, du_X29_serves_228, eu_X29_serves_217, du_X29_serves_217, eu_X29_serves_175, du_X29_serves_175, eu_X29_serves_151, du_X29_serves_151, show ((1 : Int) = 0) = False by simp, if_false]
      rw [x10, y10, Option.bind_some, Option.bind_some, hr10.1, W8_W8, I_and_255]
      rw [jst_in d16 c, jst_in d16 c, Option.bind_some, Option.bind_some]
      simp only [jls]
      generalize hb0 : jf t 1000 (U + 9) 10 % 256 = b0 at *
      have e18 : jf (jp s 1001 (M + 7) (jf t 47 U 16) (sb b0)) 33 M 18 = jf t 47 U 16 := by simp only [eq_self, or_true, true_or, or_false, false_or, jfc_jp, jupp_p, jup_a, Int.add_right_inj, Int.add_left_inj, Int.reduceEq, if_true, if_false, true_and, and_true, false_and, and_false, reduceIte]; exact c18
      have e16 : jf (jp t 1000 (U + 11) (jf t 47 U 16) b0) 47 U 16 = jf t 47 U 16 := by simp only [eq_self, or_true, true_or, or_false, false_or, jfc_jp, jupp_p, jup_a, Int.add_right_inj, Int.add_left_inj, Int.reduceEq, if_true, if_false, true_and, and_true, false_and, and_false, reduceIte]
      have w1 : W32 (jf t 47 U 16 + 1) = jf t 47 U 16 + 1 := W32_in (by omega) (by omega)
      rw [e18, e16, w1]
      have e18' : jf (jp (jp s 1001 (M + 7) (jf t 47 U 16) (sb b0)) 33 M 18 (jf t 47 U 16 + 1)) 33 M 18 = jf t 47 U 16 + 1 := by simp only [eq_self, or_true, true_or, or_false, false_or, jfc_jp, jupp_p, jup_a, Int.add_right_inj, Int.add_left_inj, Int.reduceEq, if_true, if_false, true_and, and_true, false_and, and_false, reduceIte]
      have e16' : jf (jp (jp t 1000 (U + 11) (jf t 47 U 16) b0) 47 U 16 (jf t 47 U 16 + 1)) 47 U 16 = jf t 47 U 16 + 1 := by simp only [eq_self, or_true, true_or, or_false, false_or, jfc_jp, jupp_p, jup_a, Int.add_right_inj, Int.add_left_inj, Int.reduceEq, if_true, if_false, true_and, and_true, false_and, and_false, reduceIte]
      rw [e18', e16']
      have W1 : Wk (jp (jp s 1001 (M + 7) (jf t 47 U 16) (sb b0)) 33 M 18 (jf t 47 U 16 + 1)) M (jp (jp t 1000 (U + 11) (jf t 47 U 16) b0) 47 U 16 (jf t 47 U 16 + 1)) U n k u := by
        refine ⟨?_, ?_, ?_⟩
        · unfold MrG; simp only [eq_self, or_true, true_or, or_false, false_or, jfc_jp, jupp_p, jup_a, Int.add_right_inj, Int.add_left_inj, Int.reduceEq, if_true, if_false, true_and, and_true, false_and, and_false, reduceIte]; rw [aC_upd _ _ _ _ _ _ (by decide) (by decide) (by decide)]
          refine ⟨hK, hP.at (by simp only [eq_self, or_true, true_or, or_false, false_or, jfc_jp, jupp_p, jup_a, Int.add_right_inj, Int.add_left_inj, Int.reduceEq, if_true, if_false, true_and, and_true, false_and, and_false, reduceIte]), hMem, hMark, hSeg, hReg, (by unfold MrIn at *; simp only [eq_self, or_true, true_or, or_false, false_or, jfc_jp, jupp_p, jup_a, Int.add_right_inj, Int.add_left_inj, Int.reduceEq, if_true, if_false, true_and, and_true, false_and, and_false, reduceIte]; exact hIn), hOut.put (by omega) (by omega), (by unfold MrHalt at *; simp only [eq_self, or_true, true_or, or_false, false_or, jfc_jp, jupp_p, jup_a, Int.add_right_inj, Int.add_left_inj, Int.reduceEq, if_true, if_false, true_and, and_true, false_and, and_false, reduceIte]; exact hHalt), (by unfold MrSc at *; simp only [eq_self, or_true, true_or, or_false, false_or, jfc_jp, jupp_p, jup_a, Int.add_right_inj, Int.add_left_inj, Int.reduceEq, if_true, if_false, true_and, and_true, false_and, and_false, reduceIte]; omega), (by unfold MrRing at *; simp only [eq_self, or_true, true_or, or_false, false_or, jfc_jp, jupp_p, jup_a, Int.add_right_inj, Int.add_left_inj, Int.reduceEq, if_true, if_false, true_and, and_true, false_and, and_false, reduceIte]; exact hRing)⟩
        · simp only [eq_self, or_true, true_or, or_false, false_or, jfc_jp, jupp_p, jup_a, Int.add_right_inj, Int.add_left_inj, Int.reduceEq, if_true, if_false, true_and, and_true, false_and, and_false, reduceIte]; exact hnow
        · simp only [eq_self, or_true, true_or, or_false, false_or, jfc_jp, jupp_p, jup_a, Int.add_right_inj, Int.add_left_inj, Int.reduceEq, if_true, if_false, true_and, and_true, false_and, and_false, reduceIte]; exact h23
      refine jE2_mono (jE2_eqR ?_ (p_put_plain W1 (r := 10) (v := jf t 47 U 16 + 1) (a := a) (by omega) (by omega) (by omega) (by simp only [eq_self, or_true, true_or, or_false, false_or, jfc_jp, jupp_p, jup_a, Int.add_right_inj, Int.add_left_inj, Int.reduceEq, if_true, if_false, true_and, and_true, false_and, and_false, reduceIte]; exact ha) (by simp only [eq_self, or_true, true_or, or_false, false_or, jfc_jp, jupp_p, jup_a, Int.add_right_inj, Int.add_left_inj, Int.reduceEq, if_true, if_false, true_and, and_true, false_and, and_false, reduceIte]; exact hb) (by simp only [eq_self, or_true, true_or, or_false, false_or, jfc_jp, jupp_p, jup_a, Int.add_right_inj, Int.add_left_inj, Int.reduceEq, if_true, if_false, true_and, and_true, false_and, and_false, reduceIte]; exact hj) (by simp only [eq_self, or_true, true_or, or_false, false_or, jfc_jp, jupp_p, jup_a, Int.add_right_inj, Int.add_left_inj, Int.reduceEq, if_true, if_false, true_and, and_true, false_and, and_false, reduceIte]; exact hz))) fun _ _ q => q.of ⟨by (repeat' (first | exact jFm.rfl | refine jFm.jp ?_ (by omega) (by omega))), by (repeat' (first | exact jFm.rfl | refine jFm.jp ?_ (by omega) (by omega))), by simp only [eq_self, or_true, true_or, or_false, false_or, jfc_jp, jupp_p, jup_a, Int.add_right_inj, Int.add_left_inj, Int.reduceEq, if_true, if_false, true_and, and_true, false_and, and_false, reduceIte], by simp only [eq_self, or_true, true_or, or_false, false_or, jfc_jp, jupp_p, jup_a, Int.add_right_inj, Int.add_left_inj, Int.reduceEq, if_true, if_false, true_and, and_true, false_and, and_false, reduceIte]⟩ ⟨fun x q => by rw [jf_jp, if_neg (by omega), jf_jp, if_neg (by omega)], fun x q => by rw [jf_jp, if_neg (by omega), jf_jp, if_neg (by omega)]⟩
      rw [Option.bind_assoc]; rfl
    · rw [if_neg c, if_neg c]
      simp only [em_X43_serve, dm_X43_serve, eu_X43_serve_237, du_X43_serve_237, eu_X43_serve_189, du_X43_serve_189, eu_X43_serve_163, du_X43_serve_163, eu_X43_serve_133, du_X43_serve_133, eu_X43_serve_118, du_X43_serve_118, eu_X43_serve_83, du_X43_serve_83, em_X29_serves, dm_X29_serves, eu_X29_serves_228, du_X29_serves_228, eu_X29_serves_217, du_X29_serves_217, eu_X29_serves_175, du_X29_serves_175, eu_X29_serves_151, du_X29_serves_151, if_true, jls]
      refine jE2_eqR ?_ (p_put_plain hh (r := 10) (v := -1) (a := a) (by omega) (by omega) (by omega) ha hb hj hz)
      rw [Option.bind_assoc]; rfl
  rw [if_neg z1, if_neg z1]
  by_cases z2 : z = 2
  · rw [if_pos z2, if_pos z2, c17, hI.1]
    simp only [em_X43_serve, dm_X43_serve, eu_X43_serve_237, du_X43_serve_237, eu_X43_serve_189, du_X43_serve_189, eu_X43_serve_163, du_X43_serve_163, eu_X43_serve_133, du_X43_serve_133, eu_X43_serve_118, du_X43_serve_118, eu_X43_serve_83, du_X43_serve_83, em_X29_serves, dm_X29_serves, eu_X29_serves_228, du_X29_serves_228, eu_X29_serves_217, du_X29_serves_217, eu_X29_serves_175, du_X29_serves_175, eu_X29_serves_151, du_X29_serves_151, jls]
    by_cases c : jf t 47 U 14 < jf t 47 U 13
    · have xi : jlt s 1001 (M + 6) 1000 (jf t 47 U 14) = some (jf s 1001 (M + 6) (jf t 47 U 14)) := jlt_in (by omega) (by omega)
      have yi : jlt t 1000 (U + 10) 1000 (jf t 47 U 14) = some (jf t 1000 (U + 10) (jf t 47 U 14)) := jlt_in (by omega) (by omega)
      rw [if_pos c, if_pos c, xi, yi, Option.bind_some, Option.bind_some]
      obtain ⟨i1, i2, i3⟩ := hI.2.2.2 (jf t 47 U 14) (by omega) (by omega)
      have w1 : W32 (jf t 47 U 14 + 1) = jf t 47 U 14 + 1 := W32_in (by omega) (by omega)
      rw [i3, sb_and i1 i2, if_pos c, w1]
      generalize jf t 1000 (U + 10) (jf t 47 U 14) = b0 at *
      -- the twin first counts, then puts
      have W1 : Wk (jp s 33 M 17 (jf t 47 U 14 + 1)) M (jp t 47 U 14 (jf t 47 U 14 + 1)) U n k u := by
        refine ⟨?_, ?_, ?_⟩
        · unfold MrG; simp only [eq_self, or_true, true_or, or_false, false_or, jfc_jp, jupp_p, jup_a, Int.add_right_inj, Int.add_left_inj, Int.reduceEq, if_true, if_false, true_and, and_true, false_and, and_false, reduceIte]; rw [aC_upd _ _ _ _ _ _ (by decide) (by decide) (by decide)]
          refine ⟨hK, hP.at (by simp only [eq_self, or_true, true_or, or_false, false_or, jfc_jp, jupp_p, jup_a, Int.add_right_inj, Int.add_left_inj, Int.reduceEq, if_true, if_false, true_and, and_true, false_and, and_false, reduceIte]), hMem, hMark, hSeg, hReg, (by unfold MrIn at *; simp only [eq_self, or_true, true_or, or_false, false_or, jfc_jp, jupp_p, jup_a, Int.add_right_inj, Int.add_left_inj, Int.reduceEq, if_true, if_false, true_and, and_true, false_and, and_false, reduceIte]; exact hIn), hOut, (by unfold MrHalt at *; simp only [eq_self, or_true, true_or, or_false, false_or, jfc_jp, jupp_p, jup_a, Int.add_right_inj, Int.add_left_inj, Int.reduceEq, if_true, if_false, true_and, and_true, false_and, and_false, reduceIte]; exact hHalt), (by unfold MrSc at *; simp only [eq_self, or_true, true_or, or_false, false_or, jfc_jp, jupp_p, jup_a, Int.add_right_inj, Int.add_left_inj, Int.reduceEq, if_true, if_false, true_and, and_true, false_and, and_false, reduceIte]; omega), (by unfold MrRing at *; simp only [eq_self, or_true, true_or, or_false, false_or, jfc_jp, jupp_p, jup_a, Int.add_right_inj, Int.add_left_inj, Int.reduceEq, if_true, if_false, true_and, and_true, false_and, and_false, reduceIte]; exact hRing)⟩
        · simp only [eq_self, or_true, true_or, or_false, false_or, jfc_jp, jupp_p, jup_a, Int.add_right_inj, Int.add_left_inj, Int.reduceEq, if_true, if_false, true_and, and_true, false_and, and_false, reduceIte]; exact hnow
        · simp only [eq_self, or_true, true_or, or_false, false_or, jfc_jp, jupp_p, jup_a, Int.add_right_inj, Int.add_left_inj, Int.reduceEq, if_true, if_false, true_and, and_true, false_and, and_false, reduceIte]; exact h23
      have key := p_put_plain W1 (r := 10) (v := b0) (a := a) (by omega) (by omega) (by omega) (by simp only [eq_self, or_true, true_or, or_false, false_or, jfc_jp, jupp_p, jup_a, Int.add_right_inj, Int.add_left_inj, Int.reduceEq, if_true, if_false, true_and, and_true, false_and, and_false, reduceIte]; exact ha) (by simp only [eq_self, or_true, true_or, or_false, false_or, jfc_jp, jupp_p, jup_a, Int.add_right_inj, Int.add_left_inj, Int.reduceEq, if_true, if_false, true_and, and_true, false_and, and_false, reduceIte]; exact hb) (by simp only [eq_self, or_true, true_or, or_false, false_or, jfc_jp, jupp_p, jup_a, Int.add_right_inj, Int.add_left_inj, Int.reduceEq, if_true, if_false, true_and, and_true, false_and, and_false, reduceIte]; exact hj) (by simp only [eq_self, or_true, true_or, or_false, false_or, jfc_jp, jupp_p, jup_a, Int.add_right_inj, Int.add_left_inj, Int.reduceEq, if_true, if_false, true_and, and_true, false_and, and_false, reduceIte]; exact hz)
      have key2 := jE2_mono key fun _ _ q => q.of (s0 := s) (t0 := t) ⟨by (repeat' (first | exact jFm.rfl | refine jFm.jp ?_ (by omega) (by omega))), by (repeat' (first | exact jFm.rfl | refine jFm.jp ?_ (by omega) (by omega))), by simp only [eq_self, or_true, true_or, or_false, false_or, jfc_jp, jupp_p, jup_a, Int.add_right_inj, Int.add_left_inj, Int.reduceEq, if_true, if_false, true_and, and_true, false_and, and_false, reduceIte], by simp only [eq_self, or_true, true_or, or_false, false_or, jfc_jp, jupp_p, jup_a, Int.add_right_inj, Int.add_left_inj, Int.reduceEq, if_true, if_false, true_and, and_true, false_and, and_false, reduceIte]⟩ ⟨fun x q => by rw [jf_jp, if_neg (by omega)], fun x q => by rw [jf_jp, if_neg (by omega)]⟩
      refine jE2_eqL ?_ (jE2_eqR ?_ key2)
      · rw [em_X29_put]; unfold dm_X29_put
        rw [if_neg (by omega), if_neg (by omega)]
        have hKn : 0 ≤ jf s 33 M 22 ∧ jK s (jf s 33 M 22) = 36 := by
          rw [hnow]
          unfold MrRing at hRing
          rw [aC_20] at hRing
          exact ⟨by omega, hK.2.2.2 _ (by omega) (by omega)⟩
        have e22 : jf (jp s 33 M 17 (jf t 47 U 14 + 1)) 33 M 22 = jf s 33 M 22 := by simp only [eq_self, or_true, true_or, or_false, false_or, jfc_jp, jupp_p, jup_a, Int.add_right_inj, Int.add_left_inj, Int.reduceEq, if_true, if_false, true_and, and_true, false_and, and_false, reduceIte]
        have f22 : jf (jp s 36 (jf s 33 M 22) 8 10) 33 M 22 = jf s 33 M 22 := by simp only [eq_self, or_true, true_or, or_false, false_or, jfc_jp, jupp_p, jup_a, Int.add_right_inj, Int.add_left_inj, Int.reduceEq, if_true, if_false, true_and, and_true, false_and, and_false, reduceIte]
        have g22 : jf (jp (jp s 33 M 17 (jf t 47 U 14 + 1)) 36 (jf s 33 M 22) 8 10) 33 M 22 = jf s 33 M 22 := by simp only [eq_self, or_true, true_or, or_false, false_or, jfc_jp, jupp_p, jup_a, Int.add_right_inj, Int.add_left_inj, Int.reduceEq, if_true, if_false, true_and, and_true, false_and, and_false, reduceIte]
        have h10 : jf (jp s 36 (jf s 33 M 22) 8 10) 1000 (M + 4) 10 = jf s 1000 (M + 4) 10 := by simp only [eq_self, or_true, true_or, or_false, false_or, jfc_jp, jupp_p, jup_a, Int.add_right_inj, Int.add_left_inj, Int.reduceEq, if_true, if_false, true_and, and_true, false_and, and_false, reduceIte]
        have i10 : jf (jp (jp s 33 M 17 (jf t 47 U 14 + 1)) 36 (jf s 33 M 22) 8 10) 1000 (M + 4) 10 = jf s 1000 (M + 4) 10 := by simp only [eq_self, or_true, true_or, or_false, false_or, jfc_jp, jupp_p, jup_a, Int.add_right_inj, Int.add_left_inj, Int.reduceEq, if_true, if_false, true_and, and_true, false_and, and_false, reduceIte]
        rw [e22]
        simp only [jwr_in hKn.1 (show jK s (jf s 33 M 22) = 36 from hKn.2), jwr_in hKn.1 (show jK (jp s 33 M 17 (jf t 47 U 14 + 1)) (jf s 33 M 22) = 36 from hKn.2), Option.bind_some, jlt_in (show 0 ≤ (10 : Int) by omega) (show (10 : Int) < 32 by omega), f22, g22, h10, i10, jwr_in hKn.1 (show jK (jp s 36 (jf s 33 M 22) 8 10) (jf s 33 M 22) = 36 from hKn.2), jwr_in hKn.1 (show jK (jp (jp s 33 M 17 (jf t 47 U 14 + 1)) 36 (jf s 33 M 22) 8 10) (jf s 33 M 22) = 36 from hKn.2), jst_in (show 0 ≤ (10 : Int) by omega) (show (10 : Int) < 32 by omega)]
        have r17 : jf (jp (jp (jp s 36 (jf s 33 M 22) 8 10) 36 (jf s 33 M 22) 9 (jf s 1000 (M + 4) 10)) 1000 (M + 4) 10 b0) 33 M 17 = jf t 47 U 14 := by simp only [eq_self, or_true, true_or, or_false, false_or, jfc_jp, jupp_p, jup_a, Int.add_right_inj, Int.add_left_inj, Int.reduceEq, if_true, if_false, true_and, and_true, false_and, and_false, reduceIte]; exact c17
        have r16 : jf (jp (jp (jp s 36 (jf s 33 M 22) 8 10) 36 (jf s 33 M 22) 9 (jf s 1000 (M + 4) 10)) 1000 (M + 4) 10 b0) 33 M 16 = jf t 47 U 13 := by simp only [eq_self, or_true, true_or, or_false, false_or, jfc_jp, jupp_p, jup_a, Int.add_right_inj, Int.add_left_inj, Int.reduceEq, if_true, if_false, true_and, and_true, false_and, and_false, reduceIte]; exact hI.1
        rw [r17, r16, if_pos c, w1]
        have hx : jp (jp (jp (jp s 36 (jf s 33 M 22) 8 10) 36 (jf s 33 M 22) 9 (jf s 1000 (M + 4) 10)) 1000 (M + 4) 10 b0) 33 M 17 (jf t 47 U 14 + 1) = jp (jp (jp (jp s 33 M 17 (jf t 47 U 14 + 1)) 36 (jf s 33 M 22) 8 10) 36 (jf s 33 M 22) 9 (jf s 1000 (M + 4) 10)) 1000 (M + 4) 10 b0 := by
          refine jS_eq (s := s) jSm.rfl jSm.rfl fun c' a' k' => ?_
          simp only [jf_jp]
          repeat' split
          all_goals first | rfl | (exfalso; omega)
        rw [hx]
      · rw [Option.bind_assoc]; rfl
    · rw [if_neg c, if_neg c, if_neg c]
      have hW : W32 (jf t 47 U 14 + 0) = jf t 47 U 14 := by rw [Int.add_zero]; exact W32_in (by omega) (by omega)
      have jid : jp t 47 U 14 (jf t 47 U 14) = t := by
        refine jS_eq (s := t) jSm.rfl jSm.rfl fun c' a' k' => ?_
        rw [jf_jp]
        split
        · rename_i q; rw [q.1, q.2.1, q.2.2]
        · rfl
      rw [jid]
      refine jE2_eqL ?_ (jE2_eqR ?_ (p_put_plain hh (r := 10) (v := -1) (a := a) (by omega) (by omega) (by omega) ha hb hj hz))
      · obtain ⟨r1, r2, e1, e2, w, f, g1, g2⟩ := jE2_get (p_put hh (r := 10) (v := -1) (by omega) (by omega) (by omega))
        rw [e1, Option.bind_some, Option.bind_some]
        have q17 : jf r1.1 33 M 17 = jf t 47 U 14 := by rw [g1]; exact c17
        have q16 : jf r1.1 33 M 16 = jf t 47 U 13 := by rw [g1]; exact hI.1
        rw [q17, q16, if_neg c, hW]
        have jid2 : jp r1.1 33 M 17 (jf t 47 U 14) = r1.1 := by
          refine jS_eq (s := r1.1) jSm.rfl jSm.rfl fun c' a' k' => ?_
          rw [jf_jp]
          split
          · rename_i q; rw [q.1, q.2.1, q.2.2, q17]
          · rfl
        rw [jid2]
      · rw [Option.bind_assoc]; rfl
  rw [if_neg z2, if_neg z2]
  by_cases z3 : z = 3
  · rw [if_pos z3, if_pos z3, c14]
    simp only [em_X29_serves, dm_X29_serves, eu_X29_serves_228, du_X29_serves_228, eu_X29_serves_217, du_X29_serves_217, eu_X29_serves_175, du_X29_serves_175, eu_X29_serves_151, du_X29_serves_151, jls]
    refine jE2_eqR ?_ (p_put_plain hh (r := 10) (v := jf t 47 U 20) (a := a) (by omega) (by omega) hst ha hb hj hz)
    rw [Option.bind_assoc]; rfl
  rw [if_neg z3, if_neg z3]
  simp only [em_X43_serve, dm_X43_serve, eu_X43_serve_237, du_X43_serve_237, eu_X43_serve_189, du_X43_serve_189, eu_X43_serve_163, du_X43_serve_163, eu_X43_serve_133, du_X43_serve_133, eu_X43_serve_118, du_X43_serve_118, eu_X43_serve_83, du_X43_serve_83, em_X29_serves, dm_X29_serves, eu_X29_serves_228, du_X29_serves_228, eu_X29_serves_217, du_X29_serves_217, eu_X29_serves_175, du_X29_serves_175, eu_X29_serves_151, du_X29_serves_151, jls]
  have fin : jE2 ((m_X29_fails s M 7 (jf s 33 M 10)).bind fun q => some (q.1, (0 : Int))) (((m_X43_fail t U 7 (jf t 47 U 11)).bind fun q => some (q.1, (0 : Int))).bind fun q => u_X43_work_336 q.1 U) (WE s M t U n k u) := by
    rw [c10, Option.bind_assoc]
    exact p_stop hh (by omega) rfl
  by_cases q4 : z = 4
  · rw [if_pos q4, if_pos q4]; exact fin
  rw [if_neg q4, if_neg q4]
  by_cases q4 : z = 5
  · rw [if_pos q4, if_pos q4]; exact fin
  rw [if_neg q4, if_neg q4]
  by_cases q4 : z = 6
  · rw [if_pos q4, if_pos q4]; exact fin
  rw [if_neg q4, if_neg q4]
  by_cases q4 : z = 7
  · rw [if_pos q4, if_pos q4]; exact fin
  rw [if_neg q4, if_neg q4]
  by_cases q4 : z = 8
  · rw [if_pos q4, if_pos q4]; exact fin
  rw [if_neg q4, if_neg q4]
  by_cases q4 : z = 9
  · rw [if_pos q4, if_pos q4]; exact fin
  rw [if_neg q4, if_neg q4]
  by_cases q4 : z = 10
  · rw [if_pos q4, if_pos q4, x10, y10, Option.bind_some, Option.bind_some, hr10.1]
    have e10 : jf (jp s 33 M 13 (jf t 1000 (U + 9) 10)) 33 M 10 = jf t 47 U 11 := by simp only [eq_self, or_true, true_or, or_false, false_or, jfc_jp, jupp_p, jup_a, Int.add_right_inj, Int.add_left_inj, Int.reduceEq, if_true, if_false, true_and, and_true, false_and, and_false, reduceIte]; exact c10
    have e11 : jf (jp t 47 U 19 (jf t 1000 (U + 9) 10)) 47 U 11 = jf t 47 U 11 := by simp only [eq_self, or_true, true_or, or_false, false_or, jfc_jp, jupp_p, jup_a, Int.add_right_inj, Int.add_left_inj, Int.reduceEq, if_true, if_false, true_and, and_true, false_and, and_false, reduceIte]
    rw [e10, e11, Option.bind_assoc]
    have W1 : Wk (jp s 33 M 13 (jf t 1000 (U + 9) 10)) M (jp t 47 U 19 (jf t 1000 (U + 9) 10)) U n k u := by
      refine ⟨?_, ?_, ?_⟩
      · unfold MrG; simp only [eq_self, or_true, true_or, or_false, false_or, jfc_jp, jupp_p, jup_a, Int.add_right_inj, Int.add_left_inj, Int.reduceEq, if_true, if_false, true_and, and_true, false_and, and_false, reduceIte]; rw [aC_upd _ _ _ _ _ _ (by decide) (by decide) (by decide)]
        refine ⟨hK, hP.at (by simp only [eq_self, or_true, true_or, or_false, false_or, jfc_jp, jupp_p, jup_a, Int.add_right_inj, Int.add_left_inj, Int.reduceEq, if_true, if_false, true_and, and_true, false_and, and_false, reduceIte]), hMem, hMark, hSeg, hReg, (by unfold MrIn at *; simp only [eq_self, or_true, true_or, or_false, false_or, jfc_jp, jupp_p, jup_a, Int.add_right_inj, Int.add_left_inj, Int.reduceEq, if_true, if_false, true_and, and_true, false_and, and_false, reduceIte]; exact hIn), hOut, (by unfold MrHalt at *; simp only [eq_self, or_true, true_or, or_false, false_or, jfc_jp, jupp_p, jup_a, Int.add_right_inj, Int.add_left_inj, Int.reduceEq, if_true, if_false, true_and, and_true, false_and, and_false, reduceIte]; exact hHalt), (by unfold MrSc at *; simp only [eq_self, or_true, true_or, or_false, false_or, jfc_jp, jupp_p, jup_a, Int.add_right_inj, Int.add_left_inj, Int.reduceEq, if_true, if_false, true_and, and_true, false_and, and_false, reduceIte]; omega), (by unfold MrRing at *; simp only [eq_self, or_true, true_or, or_false, false_or, jfc_jp, jupp_p, jup_a, Int.add_right_inj, Int.add_left_inj, Int.reduceEq, if_true, if_false, true_and, and_true, false_and, and_false, reduceIte]; exact hRing)⟩
      · simp only [eq_self, or_true, true_or, or_false, false_or, jfc_jp, jupp_p, jup_a, Int.add_right_inj, Int.add_left_inj, Int.reduceEq, if_true, if_false, true_and, and_true, false_and, and_false, reduceIte]; exact hnow
      · simp only [eq_self, or_true, true_or, or_false, false_or, jfc_jp, jupp_p, jup_a, Int.add_right_inj, Int.add_left_inj, Int.reduceEq, if_true, if_false, true_and, and_true, false_and, and_false, reduceIte]; exact h23
    exact jE2_mono (p_stop W1 (x := 8) (by omega) (by rw [e11])) fun _ _ q => q.of ⟨by (repeat' (first | exact jFm.rfl | refine jFm.jp ?_ (by omega) (by omega))), by (repeat' (first | exact jFm.rfl | refine jFm.jp ?_ (by omega) (by omega))), by simp only [eq_self, or_true, true_or, or_false, false_or, jfc_jp, jupp_p, jup_a, Int.add_right_inj, Int.add_left_inj, Int.reduceEq, if_true, if_false, true_and, and_true, false_and, and_false, reduceIte], by simp only [eq_self, or_true, true_or, or_false, false_or, jfc_jp, jupp_p, jup_a, Int.add_right_inj, Int.add_left_inj, Int.reduceEq, if_true, if_false, true_and, and_true, false_and, and_false, reduceIte]⟩ ⟨fun x q => by rw [jf_jp, if_neg (by omega)], fun x q => by rw [jf_jp, if_neg (by omega)]⟩
  · rw [if_neg q4, if_neg q4]; exact fin
end jMserve
