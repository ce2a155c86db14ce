/-! the twin's rows of bits: printed by gen_rows.py -/
set_option maxRecDepth 100000
section jRows
def pKT : List (List (Nat × Nat × Nat)) := [[(7, 0, 55), (5, 100, 0), (20, 400, 0)], [(7, 0, 23), (5, 100, 0), (20, 400, 0)], [(7, 0, 111), (5, 100, 0), (8, 412, 0), (1, 411, 0), (10, 401, 0), (1, 420, 0)], [(7, 0, 103), (5, 100, 0), (3, 0, 0), (5, 200, 0), (12, 400, 0)], [(7, 0, 99), (1, 411, 0), (4, 401, 0), (3, 0, 0), (5, 200, 0), (5, 300, 0), (6, 405, 0), (1, 412, 0)], [(7, 0, 99), (1, 411, 0), (4, 401, 0), (3, 0, 1), (5, 200, 0), (5, 300, 0), (6, 405, 0), (1, 412, 0)], [(7, 0, 99), (1, 411, 0), (4, 401, 0), (3, 0, 4), (5, 200, 0), (5, 300, 0), (6, 405, 0), (1, 412, 0)], [(7, 0, 99), (1, 411, 0), (4, 401, 0), (3, 0, 5), (5, 200, 0), (5, 300, 0), (6, 405, 0), (1, 412, 0)], [(7, 0, 99), (1, 411, 0), (4, 401, 0), (3, 0, 6), (5, 200, 0), (5, 300, 0), (6, 405, 0), (1, 412, 0)], [(7, 0, 99), (1, 411, 0), (4, 401, 0), (3, 0, 7), (5, 200, 0), (5, 300, 0), (6, 405, 0), (1, 412, 0)], [(7, 0, 3), (5, 100, 0), (3, 0, 0), (5, 200, 0), (12, 400, 0)], [(7, 0, 3), (5, 100, 0), (3, 0, 1), (5, 200, 0), (12, 400, 0)], [(7, 0, 3), (5, 100, 0), (3, 0, 2), (5, 200, 0), (12, 400, 0)], [(7, 0, 3), (5, 100, 0), (3, 0, 4), (5, 200, 0), (12, 400, 0)], [(7, 0, 3), (5, 100, 0), (3, 0, 5), (5, 200, 0), (12, 400, 0)], [(7, 0, 35), (5, 400, 0), (3, 0, 0), (5, 200, 0), (5, 300, 0), (7, 405, 0)], [(7, 0, 35), (5, 400, 0), (3, 0, 1), (5, 200, 0), (5, 300, 0), (7, 405, 0)], [(7, 0, 35), (5, 400, 0), (3, 0, 2), (5, 200, 0), (5, 300, 0), (7, 405, 0)], [(7, 0, 19), (5, 100, 0), (3, 0, 0), (5, 200, 0), (12, 400, 0)], [(7, 0, 19), (5, 100, 0), (3, 0, 2), (5, 200, 0), (12, 400, 0)], [(7, 0, 19), (5, 100, 0), (3, 0, 3), (5, 200, 0), (12, 400, 0)], [(7, 0, 19), (5, 100, 0), (3, 0, 4), (5, 200, 0), (12, 400, 0)], [(7, 0, 19), (5, 100, 0), (3, 0, 6), (5, 200, 0), (12, 400, 0)], [(7, 0, 19), (5, 100, 0), (3, 0, 7), (5, 200, 0), (12, 400, 0)], [(7, 0, 19), (5, 100, 0), (3, 0, 1), (5, 200, 0), (5, 400, 0), (7, 0, 0)], [(7, 0, 19), (5, 100, 0), (3, 0, 5), (5, 200, 0), (5, 400, 0), (7, 0, 0)], [(7, 0, 19), (5, 100, 0), (3, 0, 5), (5, 200, 0), (5, 400, 0), (7, 0, 32)], [(7, 0, 51), (5, 100, 0), (3, 0, 0), (5, 200, 0), (5, 300, 0), (7, 0, 0)], [(7, 0, 51), (5, 100, 0), (3, 0, 0), (5, 200, 0), (5, 300, 0), (7, 0, 32)], [(7, 0, 51), (5, 100, 0), (3, 0, 1), (5, 200, 0), (5, 300, 0), (7, 0, 0)], [(7, 0, 51), (5, 100, 0), (3, 0, 2), (5, 200, 0), (5, 300, 0), (7, 0, 0)], [(7, 0, 51), (5, 100, 0), (3, 0, 3), (5, 200, 0), (5, 300, 0), (7, 0, 0)], [(7, 0, 51), (5, 100, 0), (3, 0, 4), (5, 200, 0), (5, 300, 0), (7, 0, 0)], [(7, 0, 51), (5, 100, 0), (3, 0, 5), (5, 200, 0), (5, 300, 0), (7, 0, 0)], [(7, 0, 51), (5, 100, 0), (3, 0, 5), (5, 200, 0), (5, 300, 0), (7, 0, 32)], [(7, 0, 51), (5, 100, 0), (3, 0, 6), (5, 200, 0), (5, 300, 0), (7, 0, 0)], [(7, 0, 51), (5, 100, 0), (3, 0, 7), (5, 200, 0), (5, 300, 0), (7, 0, 0)], [(7, 0, 51), (5, 100, 0), (3, 0, 0), (5, 200, 0), (5, 300, 0), (7, 0, 1)], [(7, 0, 51), (5, 100, 0), (3, 0, 1), (5, 200, 0), (5, 300, 0), (7, 0, 1)], [(7, 0, 51), (5, 100, 0), (3, 0, 2), (5, 200, 0), (5, 300, 0), (7, 0, 1)], [(7, 0, 51), (5, 100, 0), (3, 0, 3), (5, 200, 0), (5, 300, 0), (7, 0, 1)], [(7, 0, 51), (5, 100, 0), (3, 0, 4), (5, 200, 0), (5, 300, 0), (7, 0, 1)], [(7, 0, 51), (5, 100, 0), (3, 0, 5), (5, 200, 0), (5, 300, 0), (7, 0, 1)], [(7, 0, 51), (5, 100, 0), (3, 0, 6), (5, 200, 0), (5, 300, 0), (7, 0, 1)], [(7, 0, 51), (5, 100, 0), (3, 0, 7), (5, 200, 0), (5, 300, 0), (7, 0, 1)], [(32, 0, 267386895)], [(32, 0, 115)], [(32, 0, 1048691)], [(2, 0, 0), (3, 500, 0), (1, 403, 0), (1, 402, 0), (4, 406, 0), (2, 404, 0), (3, 0, 0)], [(2, 0, 0), (3, 500, 0), (1, 406, 0), (1, 402, 0), (3, 600, 0), (3, 403, 0), (3, 0, 2)], [(2, 0, 0), (3, 700, 0), (1, 406, 0), (1, 402, 0), (3, 600, 0), (3, 403, 0), (3, 0, 6)], [(16, 0, 1)], [(2, 0, 1), (5, 400, 0), (5, 100, 0), (1, 405, 0), (3, 0, 0)], [(2, 0, 1), (1, 405, 0), (3, 401, 0), (1, 407, 0), (1, 406, 0), (1, 410, 0), (2, 408, 0), (1, 404, 0), (1, 411, 0), (3, 0, 1)], [(2, 0, 1), (5, 400, 0), (5, 100, 0), (1, 405, 0), (3, 0, 2)], [(2, 0, 1), (1, 405, 0), (2, 407, 0), (1, 406, 0), (1, 404, 0), (5, 0, 2), (1, 409, 0), (3, 0, 3)], [(2, 0, 1), (5, 400, 0), (5, 100, 0), (1, 405, 0), (3, 0, 3)], [(2, 0, 1), (5, 400, 0), (3, 500, 0), (6, 0, 32)], [(2, 0, 1), (5, 400, 0), (3, 500, 0), (6, 0, 33)], [(2, 0, 1), (5, 400, 0), (3, 500, 0), (2, 0, 2), (1, 405, 0), (3, 0, 4)], [(2, 0, 1), (3, 700, 0), (2, 0, 0), (3, 500, 0), (6, 0, 35)], [(2, 0, 1), (3, 700, 0), (2, 0, 1), (3, 500, 0), (6, 0, 35)], [(2, 0, 1), (3, 700, 0), (2, 0, 2), (3, 500, 0), (6, 0, 35)], [(2, 0, 1), (3, 700, 0), (2, 0, 3), (3, 500, 0), (6, 0, 35)], [(2, 0, 1), (1, 405, 0), (3, 401, 0), (1, 407, 0), (1, 406, 0), (1, 410, 0), (2, 408, 0), (1, 404, 0), (1, 411, 0), (3, 0, 5)], [(2, 0, 1), (1, 405, 0), (2, 401, 0), (2, 406, 0), (3, 600, 0), (2, 403, 0), (1, 408, 0), (3, 0, 6)], [(2, 0, 1), (1, 405, 0), (2, 401, 0), (2, 406, 0), (3, 600, 0), (2, 403, 0), (1, 408, 0), (3, 0, 7)], [(2, 0, 2), (5, 400, 0), (5, 100, 0), (4, 0, 0)], [(2, 0, 2), (2, 406, 0), (3, 402, 0), (5, 100, 0), (1, 405, 0), (3, 0, 2)], [(7, 0, 2), (5, 200, 0), (4, 0, 8)], [(2, 0, 2), (5, 300, 0), (5, 100, 0), (4, 0, 8)], [(16, 0, 36866)], [(7, 0, 2), (5, 200, 0), (4, 0, 9)], [(2, 0, 2), (5, 300, 0), (5, 100, 0), (4, 0, 9)], [(2, 0, 2), (5, 300, 0), (2, 406, 0), (4, 402, 0), (3, 0, 6)]]
def pKr (k : Nat) : List (Nat × Nat × Nat) := pKT.getD k []
def pRow (i : Nat) : Nat := prr (pKr (i / 32)) (i % 32)
def pBits (k : Nat) : Nat := if k < 48 then 32 else 16
theorem pKr_ok : ∀ k, k < 75 → (∀ g ∈ pKr k, prk g = true) ∧ prs (pKr k) = pBits k := by decide +kernel
theorem pRow_ok : ∀ i, i < 2400 → pRow i < 2 ∨ (100 ≤ pRow i ∧ pRow i < 800 ∧ pce (pRow i) < 4 ∧ pRow i % 100 ≤ 20) := by decide +kernel
def pRows (s : jS) (a : Int) : Prop := ∀ i : Int, 0 ≤ i → i < 2400 → jf s 1000 a i = (pRow i.toNat : Int)
def pHas (k e : Nat) : Bool := (List.range (pBits k)).any fun j => decide (1 < pRow (32 * k + j) ∧ pce (pRow (32 * k + j)) = e)
def pSho (k e : Nat) : Bool := (List.range (pBits k)).any fun j => decide (pRow (32 * k + j) / 100 = e + 5)
/-- the parts at hand -/
def pw4 (s : jS) (u : Int) (p : jP4) : jS := jw s (fun c a k => if c = 1000 ∧ a = u ∧ 0 ≤ k ∧ k < 4 then p4g p k.toNat else jf s c a k)
theorem jf_pw4 (s : jS) (u : Int) (p : jP4) (c a k : Int) : jf (pw4 s u p) c a k = if c = 1000 ∧ a = u ∧ 0 ≤ k ∧ k < 4 then p4g p k.toNat else jf s c a k := rfl
theorem pw4_pw4 (s : jS) (u : Int) (p q : jP4) : pw4 (pw4 s u p) u q = pw4 s u q := by
  unfold pw4
  rw [jw_jw]
  apply jw_ext
  intro c a k
  rw [jf_jw]
  split
  · rfl
  · rfl
theorem pw4_put (s : jS) (u : Int) (p : jP4) {e : Int} (v : Int) (h0 : 0 ≤ e) (h1 : e < 4) : jp (pw4 s u p) 1000 u e v = pw4 s u (p4s p e.toNat v) := by
  unfold pw4
  rw [jp_jw]
  apply jw_ext
  intro c a k
  by_cases h : c = 1000 ∧ a = u ∧ k = e
  · obtain ⟨rfl, rfl, rfl⟩ := h
    rw [if_pos ⟨rfl, rfl, rfl⟩, if_pos ⟨rfl, rfl, h0, h1⟩, p4_gs _ _ _ (by omega)]
  · rw [if_neg h]
    by_cases g : c = 1000 ∧ a = u ∧ 0 ≤ k ∧ k < 4
    · rw [if_pos g, if_pos g]
      have hk : ¬ k = e := fun q => h ⟨g.1, g.2.1, q⟩
      have a1 : ¬ k.toNat = e.toNat := by omega
      have a2 : k.toNat < 4 := by omega
      have a3 : e.toNat < 4 := by omega
      generalize k.toNat = x at *
      generalize e.toNat = y at *
      unfold p4g p4s
      have hx : x = 0 ∨ x = 1 ∨ x = 2 ∨ x = 3 := by omega
      have hy : y = 0 ∨ y = 1 ∨ y = 2 ∨ y = 3 := by omega
      rcases hx with rfl | rfl | rfl | rfl <;> rcases hy with rfl | rfl | rfl | rfl <;> first | rfl | exact absurd rfl a1
    · rw [if_neg g, if_neg g]

theorem s_X43_bitsOf (s : jS) (k : Int) (h0 : 0 ≤ k) : m_X43_bitsOf s k = some (pBits k.toNat : Int) := by
  rw [em_X43_bitsOf]; unfold dm_X43_bitsOf pBits
  split
  · rw [if_pos (by omega)]; rfl
  · rw [if_neg (by omega)]; rfl
theorem s_X43_has (s : jS) (x0 k e : Int) (hR : pRows s (x0 + 1)) (h0 : 0 ≤ k) (h1 : k < 75) (h2 : 0 ≤ e) (h3 : e < 4) : m_X43_has s x0 k e = some (if pHas k.toNat e.toNat = true then 1 else 0) := by
  rw [em_X43_has]; unfold dm_X43_has jlet
  rw [eu_X43_has_5]; unfold du_X43_has_5
  rw [W32_in (by omega) (by omega)]
  show jlpR (jc4 b_X43_has_5) [x0, k, e, 32 * k] s = _
  have hb : pBits k.toNat ≤ 32 := by unfold pBits; split <;> omega
  have body : ∀ j : Int, 32 * k ≤ j → j < 32 * k + (pBits k.toNat : Int) → jc4 b_X43_has_5 [x0, k, e, j] s = if 1 < pRow j.toNat ∧ pce (pRow j.toNat) = e.toNat then jinr (some (Wz 1)) else some (.inl [x0, k, e, j + 1]) := by
    intro j hj0 hj1
    show b_X43_has_5 s x0 k e j = _
    unfold b_X43_has_5
    have hr := hR j (by omega) (by omega)
    have ho := pRow_ok j.toNat (by omega)
    generalize pRow j.toNat = r at *
    rw [s_X43_bitsOf s k h0]
    simp (disch := omega) only [Option.bind_some, W32_in, jlt_in, hr, I_div_n, jdv_in, jlet, em_X43_has, dm_X43_has, eu_X43_has_62, du_X43_has_62, eu_X43_has_56, du_X43_has_56]
    rw [if_pos (by omega)]
    unfold pce
    by_cases c1 : 1 < r
    · rw [if_pos (by omega)]
      by_cases c2 : 3 < (r : Int) / 100 - 1
      · rw [if_pos c2]
        by_cases c3 : (r : Int) / 100 - 1 - 4 = e
        · rw [if_pos c3, if_pos ⟨c1, by rw [if_neg (by omega)]; omega⟩]
        · rw [if_neg c3, if_neg (fun q => c3 (by have := q.2; rw [if_neg (by omega)] at this; omega))]
      · rw [if_neg c2]
        by_cases c3 : (r : Int) / 100 - 1 = e
        · rw [if_pos c3, if_pos ⟨c1, by rw [if_pos (by omega)]; omega⟩]
        · rw [if_neg c3, if_neg (fun q => c3 (by have := q.2; rw [if_pos (by omega)] at this; omega))]
    · rw [if_neg (by omega), if_neg (fun q => c1 q.1)]
  rcases jseekR (C := jc4 b_X43_has_5) (s := s) (fun j => [x0, k, e, j]) (fun j => 1 < pRow j.toNat ∧ pce (pRow j.toNat) = e.toNat) (fun _ => some (Wz 1)) (some (Wz 0)) (32 * k) (32 * k + (pBits k.toNat : Int)) (by omega)
    (fun j a b c => by rw [body j a b, if_neg c]) (fun j a b c => by rw [body j a b, if_pos c])
    (by
      show b_X43_has_5 s x0 k e _ = _
      unfold b_X43_has_5
      rw [s_X43_bitsOf s k h0]
      simp (disch := omega) only [Option.bind_some, W32_in]
      rw [if_neg (by omega)]) with ⟨j, a1, a2, a3, a4, a5⟩ | ⟨a1, a2⟩
  · rw [a5, Wz_1, if_pos]
    unfold pHas
    rw [List.any_eq_true]
    refine ⟨(j - 32 * k).toNat, List.mem_range.mpr (by omega), decide_eq_true ?_⟩
    rw [show 32 * k.toNat + (j - 32 * k).toNat = j.toNat by omega]
    exact a3
  · rw [a2, Wz_0, if_neg]
    unfold pHas
    rw [List.any_eq_true]
    rintro ⟨i, hi, hp⟩
    have hi := List.mem_range.mp hi
    have hp := of_decide_eq_true hp
    refine a1 (32 * k + i) (by omega) (by omega) ?_
    rw [show (32 * k + (i : Int)).toNat = 32 * k.toNat + i by omega]
    exact hp
theorem s_X43_isShortPart (s : jS) (x0 k e : Int) (hR : pRows s (x0 + 1)) (h0 : 0 ≤ k) (h1 : k < 75) (h2 : 0 ≤ e) (h3 : e < 4) : m_X43_isShortPart s x0 k e = some (if pSho k.toNat e.toNat = true then 1 else 0) := by
  rw [em_X43_isShortPart]; unfold dm_X43_isShortPart jlet
  rw [eu_X43_isShortPart_5]; unfold du_X43_isShortPart_5
  rw [W32_in (by omega) (by omega)]
  show jlpR (jc4 b_X43_isShortPart_5) [x0, k, e, 32 * k] s = _
  have hb : pBits k.toNat ≤ 32 := by unfold pBits; split <;> omega
  have body : ∀ j : Int, 32 * k ≤ j → j < 32 * k + (pBits k.toNat : Int) → jc4 b_X43_isShortPart_5 [x0, k, e, j] s = if pRow j.toNat / 100 = e.toNat + 5 then jinr (some (Wz 1)) else some (.inl [x0, k, e, j + 1]) := by
    intro j hj0 hj1
    show b_X43_isShortPart_5 s x0 k e j = _
    unfold b_X43_isShortPart_5
    have hr := hR j (by omega) (by omega)
    have ho := pRow_ok j.toNat (by omega)
    generalize pRow j.toNat = r at *
    rw [s_X43_bitsOf s k h0]
    simp (disch := omega) only [Option.bind_some, W32_in, jlt_in, hr, I_div_n, jdv_in]
    rw [if_pos (by omega)]
    by_cases c1 : r / 100 = e.toNat + 5
    · rw [if_pos c1, if_pos (by omega)]
    · rw [if_neg c1, if_neg (by omega)]
  rcases jseekR (C := jc4 b_X43_isShortPart_5) (s := s) (fun j => [x0, k, e, j]) (fun j => pRow j.toNat / 100 = e.toNat + 5) (fun _ => some (Wz 1)) (some (Wz 0)) (32 * k) (32 * k + (pBits k.toNat : Int)) (by omega)
    (fun j a b c => by rw [body j a b, if_neg c]) (fun j a b c => by rw [body j a b, if_pos c])
    (by
      show b_X43_isShortPart_5 s x0 k e _ = _
      unfold b_X43_isShortPart_5
      rw [s_X43_bitsOf s k h0]
      simp (disch := omega) only [Option.bind_some, W32_in]
      rw [if_neg (by omega)]) with ⟨j, a1, a2, a3, a4, a5⟩ | ⟨a1, a2⟩
  · rw [a5, Wz_1, if_pos]
    unfold pSho
    rw [List.any_eq_true]
    refine ⟨(j - 32 * k).toNat, List.mem_range.mpr (by omega), decide_eq_true ?_⟩
    rw [show 32 * k.toNat + (j - 32 * k).toNat = j.toNat by omega]
    exact a3
  · rw [a2, Wz_0, if_neg]
    unfold pSho
    rw [List.any_eq_true]
    rintro ⟨i, hi, hp⟩
    have hi := List.mem_range.mp hi
    have hp := of_decide_eq_true hp
    refine a1 (32 * k + i) (by omega) (by omega) ?_
    rw [show (32 * k + (i : Int)).toNat = 32 * k.toNat + i by omega]
    exact hp

theorem s_X38_bitsOf (s : jS) (k : Int) (h0 : 0 ≤ k) : m_X38_bitsOf s k = some (pBits k.toNat : Int) := by
  rw [em_X38_bitsOf]; unfold dm_X38_bitsOf pBits
  split
  · rw [if_pos (by omega)]; rfl
  · rw [if_neg (by omega)]; rfl
theorem s_X38_has (s : jS) (x0 k e : Int) (hR : pRows s (x0 + 1)) (h0 : 0 ≤ k) (h1 : k < 75) (h2 : 0 ≤ e) (h3 : e < 4) : m_X38_has s x0 k e = some (if pHas k.toNat e.toNat = true then 1 else 0) := by
  rw [em_X38_has]; unfold dm_X38_has jlet
  rw [eu_X38_has_5]; unfold du_X38_has_5
  rw [W32_in (by omega) (by omega)]
  show jlpR (jc4 b_X38_has_5) [x0, k, e, 32 * k] s = _
  have hb : pBits k.toNat ≤ 32 := by unfold pBits; split <;> omega
  have body : ∀ j : Int, 32 * k ≤ j → j < 32 * k + (pBits k.toNat : Int) → jc4 b_X38_has_5 [x0, k, e, j] s = if 1 < pRow j.toNat ∧ pce (pRow j.toNat) = e.toNat then jinr (some (Wz 1)) else some (.inl [x0, k, e, j + 1]) := by
    intro j hj0 hj1
    show b_X38_has_5 s x0 k e j = _
    unfold b_X38_has_5
    have hr := hR j (by omega) (by omega)
    have ho := pRow_ok j.toNat (by omega)
    generalize pRow j.toNat = r at *
    rw [s_X38_bitsOf s k h0]
    simp (disch := omega) only [Option.bind_some, W32_in, jlt_in, hr, I_div_n, jdv_in, jlet, em_X38_has, dm_X38_has, eu_X38_has_62, du_X38_has_62, eu_X38_has_56, du_X38_has_56]
    rw [if_pos (by omega)]
    unfold pce
    by_cases c1 : 1 < r
    · rw [if_pos (by omega)]
      by_cases c2 : 3 < (r : Int) / 100 - 1
      · rw [if_pos c2]
        by_cases c3 : (r : Int) / 100 - 1 - 4 = e
        · rw [if_pos c3, if_pos ⟨c1, by rw [if_neg (by omega)]; omega⟩]
        · rw [if_neg c3, if_neg (fun q => c3 (by have := q.2; rw [if_neg (by omega)] at this; omega))]
      · rw [if_neg c2]
        by_cases c3 : (r : Int) / 100 - 1 = e
        · rw [if_pos c3, if_pos ⟨c1, by rw [if_pos (by omega)]; omega⟩]
        · rw [if_neg c3, if_neg (fun q => c3 (by have := q.2; rw [if_pos (by omega)] at this; omega))]
    · rw [if_neg (by omega), if_neg (fun q => c1 q.1)]
  rcases jseekR (C := jc4 b_X38_has_5) (s := s) (fun j => [x0, k, e, j]) (fun j => 1 < pRow j.toNat ∧ pce (pRow j.toNat) = e.toNat) (fun _ => some (Wz 1)) (some (Wz 0)) (32 * k) (32 * k + (pBits k.toNat : Int)) (by omega)
    (fun j a b c => by rw [body j a b, if_neg c]) (fun j a b c => by rw [body j a b, if_pos c])
    (by
      show b_X38_has_5 s x0 k e _ = _
      unfold b_X38_has_5
      rw [s_X38_bitsOf s k h0]
      simp (disch := omega) only [Option.bind_some, W32_in]
      rw [if_neg (by omega)]) with ⟨j, a1, a2, a3, a4, a5⟩ | ⟨a1, a2⟩
  · rw [a5, Wz_1, if_pos]
    unfold pHas
    rw [List.any_eq_true]
    refine ⟨(j - 32 * k).toNat, List.mem_range.mpr (by omega), decide_eq_true ?_⟩
    rw [show 32 * k.toNat + (j - 32 * k).toNat = j.toNat by omega]
    exact a3
  · rw [a2, Wz_0, if_neg]
    unfold pHas
    rw [List.any_eq_true]
    rintro ⟨i, hi, hp⟩
    have hi := List.mem_range.mp hi
    have hp := of_decide_eq_true hp
    refine a1 (32 * k + i) (by omega) (by omega) ?_
    rw [show (32 * k + (i : Int)).toNat = 32 * k.toNat + i by omega]
    exact hp
theorem s_X38_isShortPart (s : jS) (x0 k e : Int) (hR : pRows s (x0 + 1)) (h0 : 0 ≤ k) (h1 : k < 75) (h2 : 0 ≤ e) (h3 : e < 4) : m_X38_isShortPart s x0 k e = some (if pSho k.toNat e.toNat = true then 1 else 0) := by
  rw [em_X38_isShortPart]; unfold dm_X38_isShortPart jlet
  rw [eu_X38_isShortPart_5]; unfold du_X38_isShortPart_5
  rw [W32_in (by omega) (by omega)]
  show jlpR (jc4 b_X38_isShortPart_5) [x0, k, e, 32 * k] s = _
  have hb : pBits k.toNat ≤ 32 := by unfold pBits; split <;> omega
  have body : ∀ j : Int, 32 * k ≤ j → j < 32 * k + (pBits k.toNat : Int) → jc4 b_X38_isShortPart_5 [x0, k, e, j] s = if pRow j.toNat / 100 = e.toNat + 5 then jinr (some (Wz 1)) else some (.inl [x0, k, e, j + 1]) := by
    intro j hj0 hj1
    show b_X38_isShortPart_5 s x0 k e j = _
    unfold b_X38_isShortPart_5
    have hr := hR j (by omega) (by omega)
    have ho := pRow_ok j.toNat (by omega)
    generalize pRow j.toNat = r at *
    rw [s_X38_bitsOf s k h0]
    simp (disch := omega) only [Option.bind_some, W32_in, jlt_in, hr, I_div_n, jdv_in]
    rw [if_pos (by omega)]
    by_cases c1 : r / 100 = e.toNat + 5
    · rw [if_pos c1, if_pos (by omega)]
    · rw [if_neg c1, if_neg (by omega)]
  rcases jseekR (C := jc4 b_X38_isShortPart_5) (s := s) (fun j => [x0, k, e, j]) (fun j => pRow j.toNat / 100 = e.toNat + 5) (fun _ => some (Wz 1)) (some (Wz 0)) (32 * k) (32 * k + (pBits k.toNat : Int)) (by omega)
    (fun j a b c => by rw [body j a b, if_neg c]) (fun j a b c => by rw [body j a b, if_pos c])
    (by
      show b_X38_isShortPart_5 s x0 k e _ = _
      unfold b_X38_isShortPart_5
      rw [s_X38_bitsOf s k h0]
      simp (disch := omega) only [Option.bind_some, W32_in]
      rw [if_neg (by omega)]) with ⟨j, a1, a2, a3, a4, a5⟩ | ⟨a1, a2⟩
  · rw [a5, Wz_1, if_pos]
    unfold pSho
    rw [List.any_eq_true]
    refine ⟨(j - 32 * k).toNat, List.mem_range.mpr (by omega), decide_eq_true ?_⟩
    rw [show 32 * k.toNat + (j - 32 * k).toNat = j.toNat by omega]
    exact a3
  · rw [a2, Wz_0, if_neg]
    unfold pSho
    rw [List.any_eq_true]
    rintro ⟨i, hi, hp⟩
    have hi := List.mem_range.mp hi
    have hp := of_decide_eq_true hp
    refine a1 (32 * k + i) (by omega) (by omega) ?_
    rw [show (32 * k + (i : Int)).toNat = 32 * k.toNat + i by omega]
    exact hp
end jRows
