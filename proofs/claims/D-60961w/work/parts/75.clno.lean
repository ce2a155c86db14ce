/-! where no kind fits: printed by gen_cl.py -/
set_option maxRecDepth 100000
section jClno
theorem cLong_no (w : Int) (hw : -2147483648 ≤ w ∧ w ≤ 2147483647) (h : ∀ k : Nat, k < 48 → pTk k w = false) : (cLong w).1 = -1 := by
  have b1 := pSl_lo 12 3 w
  simp only [show (2 : Int) ^ 3 = 8 from rfl] at b1
  have G : ∀ (k : Nat) (P : Prop), k < 48 → (pTk k w = true ↔ P) → ¬ P := fun k P hk he q => absurd (he.mpr q) (by rw [h k hk]; decide)
  unfold cLong
  by_cases e : pSl 0 7 w = 3
  · rw [if_pos e]
    have g10 := G 10 _ (by omega) (pTk_10 w).1
    have g11 := G 11 _ (by omega) (pTk_11 w).1
    have g12 := G 12 _ (by omega) (pTk_12 w).1
    have g13 := G 13 _ (by omega) (pTk_13 w).1
    have g14 := G 14 _ (by omega) (pTk_14 w).1
    rw [e] at g10 g11 g12 g13 g14
    simp only [true_and] at g10 g11 g12 g13 g14
    try dsimp only
    repeat' split
    all_goals first | rfl | (exfalso; omega)
  rw [if_neg e]; clear e
  by_cases e : pSl 0 7 w = 19
  · rw [if_pos e]
    have g18 := G 18 _ (by omega) (pTk_18 w).1
    have g19 := G 19 _ (by omega) (pTk_19 w).1
    have g20 := G 20 _ (by omega) (pTk_20 w).1
    have g21 := G 21 _ (by omega) (pTk_21 w).1
    have g22 := G 22 _ (by omega) (pTk_22 w).1
    have g23 := G 23 _ (by omega) (pTk_23 w).1
    have g24 := G 24 _ (by omega) (pTk_24 w).1
    have g25 := G 25 _ (by omega) (pTk_25 w).1
    have g26 := G 26 _ (by omega) (pTk_26 w).1
    rw [e] at g18 g19 g20 g21 g22 g23 g24 g25 g26
    simp only [true_and] at g18 g19 g20 g21 g22 g23 g24 g25 g26
    unfold cSum
    obtain e3 | e3 | e3 | e3 | e3 | e3 | e3 | e3 : pSl 12 3 w = 0 ∨ pSl 12 3 w = 1 ∨ pSl 12 3 w = 2 ∨ pSl 12 3 w = 3 ∨ pSl 12 3 w = 4 ∨ pSl 12 3 w = 5 ∨ pSl 12 3 w = 6 ∨ pSl 12 3 w = 7 := by omega
    all_goals (rw [e3]; simp [e3] at g18 g19 g20 g21 g22 g23 g24 g25 g26; try simp [*])
  rw [if_neg e]; clear e
  by_cases e : pSl 0 7 w = 23
  · rw [if_pos e]
    have g1 := G 1 _ (by omega) (pTk_1 w).1
    exact absurd e g1
  rw [if_neg e]; clear e
  by_cases e : pSl 0 7 w = 35
  · rw [if_pos e]
    have g15 := G 15 _ (by omega) (pTk_15 w).1
    have g16 := G 16 _ (by omega) (pTk_16 w).1
    have g17 := G 17 _ (by omega) (pTk_17 w).1
    rw [e] at g15 g16 g17
    simp only [true_and] at g15 g16 g17
    try dsimp only
    repeat' split
    all_goals first | rfl | (exfalso; omega)
  rw [if_neg e]; clear e
  by_cases e : pSl 0 7 w = 51
  · rw [if_pos e]
    have g27 := G 27 _ (by omega) (pTk_27 w).1
    have g28 := G 28 _ (by omega) (pTk_28 w).1
    have g29 := G 29 _ (by omega) (pTk_29 w).1
    have g30 := G 30 _ (by omega) (pTk_30 w).1
    have g31 := G 31 _ (by omega) (pTk_31 w).1
    have g32 := G 32 _ (by omega) (pTk_32 w).1
    have g33 := G 33 _ (by omega) (pTk_33 w).1
    have g34 := G 34 _ (by omega) (pTk_34 w).1
    have g35 := G 35 _ (by omega) (pTk_35 w).1
    have g36 := G 36 _ (by omega) (pTk_36 w).1
    have g37 := G 37 _ (by omega) (pTk_37 w).1
    have g38 := G 38 _ (by omega) (pTk_38 w).1
    have g39 := G 39 _ (by omega) (pTk_39 w).1
    have g40 := G 40 _ (by omega) (pTk_40 w).1
    have g41 := G 41 _ (by omega) (pTk_41 w).1
    have g42 := G 42 _ (by omega) (pTk_42 w).1
    have g43 := G 43 _ (by omega) (pTk_43 w).1
    have g44 := G 44 _ (by omega) (pTk_44 w).1
    rw [e] at g27 g28 g29 g30 g31 g32 g33 g34 g35 g36 g37 g38 g39 g40 g41 g42 g43 g44
    simp only [true_and] at g27 g28 g29 g30 g31 g32 g33 g34 g35 g36 g37 g38 g39 g40 g41 g42 g43 g44
    unfold cRow
    obtain e3 | e3 | e3 | e3 | e3 | e3 | e3 | e3 : pSl 12 3 w = 0 ∨ pSl 12 3 w = 1 ∨ pSl 12 3 w = 2 ∨ pSl 12 3 w = 3 ∨ pSl 12 3 w = 4 ∨ pSl 12 3 w = 5 ∨ pSl 12 3 w = 6 ∨ pSl 12 3 w = 7 := by omega
    all_goals (rw [e3]; simp [e3] at g27 g28 g29 g30 g31 g32 g33 g34 g35 g36 g37 g38 g39 g40 g41 g42 g43 g44; try simp [*])
  rw [if_neg e]; clear e
  by_cases e : pSl 0 7 w = 55
  · rw [if_pos e]
    have g0 := G 0 _ (by omega) (pTk_0 w).1
    exact absurd e g0
  rw [if_neg e]; clear e
  by_cases e : pSl 0 7 w = 99
  · rw [if_pos e]
    have g4 := G 4 _ (by omega) (pTk_4 w).1
    have g5 := G 5 _ (by omega) (pTk_5 w).1
    have g6 := G 6 _ (by omega) (pTk_6 w).1
    have g7 := G 7 _ (by omega) (pTk_7 w).1
    have g8 := G 8 _ (by omega) (pTk_8 w).1
    have g9 := G 9 _ (by omega) (pTk_9 w).1
    rw [e] at g4 g5 g6 g7 g8 g9
    simp only [true_and] at g4 g5 g6 g7 g8 g9
    try dsimp only
    repeat' split
    all_goals first | rfl | (exfalso; omega)
  rw [if_neg e]; clear e
  by_cases e : pSl 0 7 w = 103
  · rw [if_pos e]
    have g3 := G 3 _ (by omega) (pTk_3 w).1
    rw [e] at g3
    simp only [true_and] at g3
    try dsimp only
    repeat' split
    all_goals first | rfl | (exfalso; omega)
  rw [if_neg e]; clear e
  by_cases e : pSl 0 7 w = 111
  · rw [if_pos e]
    have g2 := G 2 _ (by omega) (pTk_2 w).1
    exact absurd e g2
  rw [if_neg e]; clear e
  have g45 := G 45 _ (by omega) (pTk_45 w).1
  have g46 := G 46 _ (by omega) (pTk_46 w).1
  have g47 := G 47 _ (by omega) (pTk_47 w).1
  unfold pSl at g45 g46 g47
  have q45 : ¬ w / 1 % 4294967296 = 267386895 := g45
  have q46 : ¬ w / 1 % 4294967296 = 115 := g46
  have q47 : ¬ w / 1 % 4294967296 = 1048691 := g47
  rw [if_neg (by omega), if_neg (by omega), if_neg (by omega)]
theorem cLong_k (w : Int) (hw : -2147483648 ≤ w ∧ w ≤ 2147483647) : ∀ (k : Nat), k < 48 → pTk k w = true → cLong w = ((k : Int), pPt k w)
  | 0, _, h => cLong_0 w h
  | 1, _, h => cLong_1 w h
  | 2, _, h => cLong_2 w h
  | 3, _, h => cLong_3 w h
  | 4, _, h => cLong_4 w h
  | 5, _, h => cLong_5 w h
  | 6, _, h => cLong_6 w h
  | 7, _, h => cLong_7 w h
  | 8, _, h => cLong_8 w h
  | 9, _, h => cLong_9 w h
  | 10, _, h => cLong_10 w h
  | 11, _, h => cLong_11 w h
  | 12, _, h => cLong_12 w h
  | 13, _, h => cLong_13 w h
  | 14, _, h => cLong_14 w h
  | 15, _, h => cLong_15 w h
  | 16, _, h => cLong_16 w h
  | 17, _, h => cLong_17 w h
  | 18, _, h => cLong_18 w h
  | 19, _, h => cLong_19 w h
  | 20, _, h => cLong_20 w h
  | 21, _, h => cLong_21 w h
  | 22, _, h => cLong_22 w h
  | 23, _, h => cLong_23 w h
  | 24, _, h => cLong_24 w h
  | 25, _, h => cLong_25 w h
  | 26, _, h => cLong_26 w h
  | 27, _, h => cLong_27 w h
  | 28, _, h => cLong_28 w h
  | 29, _, h => cLong_29 w h
  | 30, _, h => cLong_30 w h
  | 31, _, h => cLong_31 w h
  | 32, _, h => cLong_32 w h
  | 33, _, h => cLong_33 w h
  | 34, _, h => cLong_34 w h
  | 35, _, h => cLong_35 w h
  | 36, _, h => cLong_36 w h
  | 37, _, h => cLong_37 w h
  | 38, _, h => cLong_38 w h
  | 39, _, h => cLong_39 w h
  | 40, _, h => cLong_40 w h
  | 41, _, h => cLong_41 w h
  | 42, _, h => cLong_42 w h
  | 43, _, h => cLong_43 w h
  | 44, _, h => cLong_44 w h
  | 45, _, h => cLong_45 w hw h
  | 46, _, h => cLong_46 w hw h
  | 47, _, h => cLong_47 w hw h
  | n + 48, h, _ => absurd h (by omega)
def pLK (k : Nat) : Nat := [18, 12, 17, 18, 18, 2, 18, 18, 0, 25, 26, 23, 28, 32, 35, 36, 2, 4, 5, 24, 12, 3, 27, 47, 3, 27, 17].getD (k - 48) 0
theorem cShort_k (r : jP4) (w : Int) (h0 : 0 ≤ w) (h1 : w < 65536) : ∀ (k : Nat), k < 75 → 48 ≤ k → pTk k w = true → cShort r w = ((pLK k : Int), pStr k (pPt k w))
  | 48, _, _, h => cShort_48 r w h0 h1 h
  | 49, _, _, h => cShort_49 r w h0 h1 h
  | 50, _, _, h => cShort_50 r w h0 h1 h
  | 51, _, _, h => cShort_51 r w h0 h1 h
  | 52, _, _, h => cShort_52 r w h0 h1 h
  | 53, _, _, h => cShort_53 r w h0 h1 h
  | 54, _, _, h => cShort_54 r w h0 h1 h
  | 55, _, _, h => cShort_55 r w h0 h1 h
  | 56, _, _, h => cShort_56 r w h0 h1 h
  | 57, _, _, h => cShort_57 r w h0 h1 h
  | 58, _, _, h => cShort_58 r w h0 h1 h
  | 59, _, _, h => cShort_59 r w h0 h1 h
  | 60, _, _, h => cShort_60 r w h0 h1 h
  | 61, _, _, h => cShort_61 r w h0 h1 h
  | 62, _, _, h => cShort_62 r w h0 h1 h
  | 63, _, _, h => cShort_63 r w h0 h1 h
  | 64, _, _, h => cShort_64 r w h0 h1 h
  | 65, _, _, h => cShort_65 r w h0 h1 h
  | 66, _, _, h => cShort_66 r w h0 h1 h
  | 67, _, _, h => cShort_67 r w h0 h1 h
  | 68, _, _, h => cShort_68 r w h0 h1 h
  | 69, _, _, h => cShort_69 r w h0 h1 h
  | 70, _, _, h => cShort_70 r w h0 h1 h
  | 71, _, _, h => cShort_71 r w h0 h1 h
  | 72, _, _, h => cShort_72 r w h0 h1 h
  | 73, _, _, h => cShort_73 r w h0 h1 h
  | 74, _, _, h => cShort_74 r w h0 h1 h
  | n + 75, h, _, _ => absurd h (by omega)
  | 0, _, h, _ => absurd h (by omega)
  | 1, _, h, _ => absurd h (by omega)
  | 2, _, h, _ => absurd h (by omega)
  | 3, _, h, _ => absurd h (by omega)
  | 4, _, h, _ => absurd h (by omega)
  | 5, _, h, _ => absurd h (by omega)
  | 6, _, h, _ => absurd h (by omega)
  | 7, _, h, _ => absurd h (by omega)
  | 8, _, h, _ => absurd h (by omega)
  | 9, _, h, _ => absurd h (by omega)
  | 10, _, h, _ => absurd h (by omega)
  | 11, _, h, _ => absurd h (by omega)
  | 12, _, h, _ => absurd h (by omega)
  | 13, _, h, _ => absurd h (by omega)
  | 14, _, h, _ => absurd h (by omega)
  | 15, _, h, _ => absurd h (by omega)
  | 16, _, h, _ => absurd h (by omega)
  | 17, _, h, _ => absurd h (by omega)
  | 18, _, h, _ => absurd h (by omega)
  | 19, _, h, _ => absurd h (by omega)
  | 20, _, h, _ => absurd h (by omega)
  | 21, _, h, _ => absurd h (by omega)
  | 22, _, h, _ => absurd h (by omega)
  | 23, _, h, _ => absurd h (by omega)
  | 24, _, h, _ => absurd h (by omega)
  | 25, _, h, _ => absurd h (by omega)
  | 26, _, h, _ => absurd h (by omega)
  | 27, _, h, _ => absurd h (by omega)
  | 28, _, h, _ => absurd h (by omega)
  | 29, _, h, _ => absurd h (by omega)
  | 30, _, h, _ => absurd h (by omega)
  | 31, _, h, _ => absurd h (by omega)
  | 32, _, h, _ => absurd h (by omega)
  | 33, _, h, _ => absurd h (by omega)
  | 34, _, h, _ => absurd h (by omega)
  | 35, _, h, _ => absurd h (by omega)
  | 36, _, h, _ => absurd h (by omega)
  | 37, _, h, _ => absurd h (by omega)
  | 38, _, h, _ => absurd h (by omega)
  | 39, _, h, _ => absurd h (by omega)
  | 40, _, h, _ => absurd h (by omega)
  | 41, _, h, _ => absurd h (by omega)
  | 42, _, h, _ => absurd h (by omega)
  | 43, _, h, _ => absurd h (by omega)
  | 44, _, h, _ => absurd h (by omega)
  | 45, _, h, _ => absurd h (by omega)
  | 46, _, h, _ => absurd h (by omega)
  | 47, _, h, _ => absurd h (by omega)
theorem pTk_one {w : Int} (hw : -2147483648 ≤ w ∧ w ≤ 2147483647) {k j : Nat} (hk : k < 48) (hj : j < 48) (h : pTk k w = true) (h' : pTk j w = true) : k = j := by
  have e := cLong_k w hw k hk h
  rw [cLong_k w hw j hj h'] at e
  have := congrArg Prod.fst e
  have : (j : Int) = k := this
  omega
end jClno
