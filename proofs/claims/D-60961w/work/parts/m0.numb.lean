/-! the linker: upper and lower parts of numbers; words read again, the twin *-/
set_option maxRecDepth 100000
section jLnu
variable {s t u w' s' t' : jS} {a b k m n nn o p q v l x c f g i j A H C K S X P Q V rr n' sec w r how val q0 kd : Int} {O : Int → Int → Int → Int → Int} {d e z y : Int → Int → Int} {G B : Int → Int}
def hiP (v : Int) : Int := (v + 2048) / 4096 % 1048576
def loP (v : Int) : Int := if v % 4096 < 2048 then v % 4096 else v % 4096 - 4096
theorem hiP_lo : 0 ≤ hiP v ∧ hiP v ≤ 1048575 := by unfold hiP; omega
theorem loP_lo : -2048 ≤ loP v ∧ loP v ≤ 2047 := by unfold loP; split <;> omega
abbrev j34 (v : Int) : Prop := -100000000000 ≤ v ∧ v ≤ 100000000000
theorem c_upperOf (h : j34 v) : m_X35_upperOf s v = some (hiP v) := by
  rw [e_X35_upperOf, W64_in (by omega) (by omega), l_shr_p ⟨by omega, by omega⟩ (by decide) (by decide), L_and_1048575]; rfl
theorem t_high (h : j34 v) : m_X37_high t v = some (hiP v) := by
  have := hiP_lo (v := v)
  rw [e_X37_high, W64_in (by omega) (by omega), l_shr_p ⟨by omega, by omega⟩ (by decide) (by decide), L_and_1048575]
  show some (L2i (hiP v)) = _
  rw [l2i_in (by omega) (by omega)]
theorem xor2048 : ∀ x : Fin 4096, l_xor (x.val : Int) 2048 = if x.val < 2048 then (x.val : Int) + 2048 else (x.val : Int) - 2048 := by decide +kernel
theorem c_lowerOf : m_X35_lowerOf s v = some (loP v) := by
  have x0 : 0 ≤ v % 4096 ∧ v % 4096 < 4096 := by omega
  have hx := xor2048 ⟨(v % 4096).toNat, by omega⟩
  have ex : (((v % 4096).toNat : Nat) : Int) = v % 4096 := by omega
  simp only [ex] at hx
  rw [e_X35_lowerOf, L_and_4095, L_xor_eq, hx]
  refine congrArg some ?_
  unfold loP
  by_cases c : v % 4096 < 2048
  · rw [if_pos (by omega), if_pos c, W64_in (by omega) (by omega)]; omega
  · rw [if_neg (by omega), if_neg c, W64_in (by omega) (by omega)]; omega
theorem t_low : m_X37_low t v = some (loP v) := by
  rw [e_X37_low]
  refine congrArg some ?_
  have e20 : (2 : Int) ^ (20 : Int).toNat = 1048576 := by decide
  have e : I_shl (L2i v) 20 = I_shl (v % 4096) 20 := by
    rw [i_shl_p (by decide) (by decide), i_shl_p (by decide) (by decide), e20, l2i_p]
    refine W32_cong ?_
    have := W32_mod v
    omega
  rw [e, sxt_p (n := 12) (by decide) (by decide) (by omega) (show v % 4096 < 4096 by omega) (by decide), sxt_12]
  unfold loP
  split
  · rfl
  · rfl
theorem c_isIntR : m_X35_isInt s v = some (if -2147483648 ≤ v ∧ v ≤ 2147483647 then 1 else 0) := by
  rw [e_X35_isInt]
  by_cases c : -2147483648 ≤ v ∧ v ≤ 2147483647
  · rw [if_pos (by omega), if_pos c]
  · rw [if_neg (by omega), if_neg c]
theorem t_isIntR : m_X37_isInt t v = some (if -2147483648 ≤ v ∧ v ≤ 2147483647 then 1 else 0) := by
  rw [e_X37_isInt]
  by_cases c : -2147483648 ≤ v ∧ v ≤ 2147483647
  · rw [if_pos (by omega), if_pos c]
  · rw [if_neg (by omega), if_neg c]
theorem c_isLowR : m_X35_isLow s v = some (if -2048 ≤ v ∧ v ≤ 2047 then 1 else 0) := by
  rw [e_X35_isLow]
  by_cases c : -2048 ≤ v ∧ v ≤ 2047
  · rw [if_pos (by omega), if_pos c]
  · rw [if_neg (by omega), if_neg c]
theorem t_isNearR : m_X37_isNear t v = some (if -2048 ≤ v ∧ v ≤ 2047 then 1 else 0) := by
  rw [e_X37_isNear]
  by_cases c : -2048 ≤ v ∧ v ≤ 2047
  · rw [if_pos (by omega), if_pos c]
  · rw [if_neg (by omega), if_neg c]
/-- the twin's word of a relocation that is in a plain piece -/
theorem t_wordP (hu : tUn t H x (O x)) (vo : vOb (O x)) (x0 : 0 ≤ x) (x1 : x < 6) (j0 : 0 ≤ j) (j1 : j < O x 2 2 0) (h51 : ¬ O x 5 j 2 = 51) (hK : jf t 41 H 114 = -1) (ha : jf t 41 H 115 = 4096 * 0 + A) (b0 : 0 ≤ A) (m0 : 0 ≤ m) (m1 : m ≤ 8) (hnn : nn = 2 ∨ nn = 4) (hkw : (nn = 4 ↔ ¬ kW (O x 5 j 2) (O x 5 j 4) - m < 4)) (kw : 0 ≤ kW (O x 5 j 2) (O x 5 j 4) ∧ kW (O x 5 j 2) (O x 5 j 4) ≤ 100) (b1 : A + m + nn ≤ 4096) (hB : ∀ k, 0 ≤ k → k < nn → 0 ≤ tBy t H 0 (A + m + k) ∧ tBy t H 0 (A + m + k) < 256) : m_X37_wordFor t H (300 * x + j) m = some (twW nn (fun k => tBy t H 0 (A + m + k))) := by
  have ld : ∀ q, (q = 2 ∨ q = 4) → q ≤ nn → m_X37_loaded t H (A + m) q = some (W32 (leN (fun k => tBy t H 0 (A + m + k)) q.toNat)) := fun q hq hqn => t_loadB (by omega) (by omega) (by omega) (fun k k0 k1 => hB k k0 (by omega)) fun k k0 k1 => by
    show jf t 1000 (H + 205) (A + m + k) = jf t 1000 (H + 205) (4096 * 0 + (A + m + k))
    rw [show 4096 * 0 + (A + m + k) = A + m + k by omega]
  have l2 := leN_lo (B := fun k => tBy t H 0 (A + m + k)) (n := nn) hB 2 (by omega)
  have e2 : (256 : Int) ^ 2 = 65536 := by decide
  rw [em_X37_wordFor]; unfold dm_X37_wordFor
  rw [hK, if_pos rfl, ha, W32_in (z := 4096 * 0 + A + m) (by omega) (by omega), show 4096 * 0 + A + m = A + m by omega, ld 2 (.inl rfl) (by omega), Option.bind_some, t_needed hu vo x0 x1 j0 j1 h51, Option.bind_some, W32_in (z := kW (O x 5 j 2) (O x 5 j 4) - m) (by omega) (by omega)]
  have e53 : ∀ y, u_X37_wordFor_53 t H m (W32 (leN (fun k => tBy t H 0 (A + m + k)) (2 : Int).toNat)) y = if y = 4 then (if leN (fun k => tBy t H 0 (A + m + k)) 2 % 4 = 3 then (m_X37_loaded t H (A + m) 4).bind fun v2 => some v2 else some (leN (fun k => tBy t H 0 (A + m + k)) 2)) else some (leN (fun k => tBy t H 0 (A + m + k)) 2) := fun y => by
    rw [eu_X37_wordFor_53]; unfold du_X37_wordFor_53
    rw [show W32 (leN (fun k => tBy t H 0 (A + m + k)) (2 : Int).toNat) = leN (fun k => tBy t H 0 (A + m + k)) 2 from W32_in (by show _ ≤ leN _ 2; omega) (by show leN _ 2 ≤ _; omega)]
    by_cases c : y = 4
    · rw [if_pos c, if_pos c, lenW, Option.bind_some]
      by_cases c3 : leN (fun k => tBy t H 0 (A + m + k)) 2 % 4 = 3
      · rw [if_pos c3, if_pos rfl, if_pos c3, ha, W32_in (by omega) (by omega), show 4096 * 0 + A + m = A + m by omega]
      · rw [if_neg c3, if_neg (by decide), if_neg c3]
    · rw [if_neg c, if_neg c]
  unfold twW
  rcases hnn with rfl | rfl
  · rw [if_pos (by omega), e53, if_neg (by decide), if_neg (fun q => absurd q.1 (by decide))]
  · rw [if_neg (by omega), e53, if_pos rfl]
    by_cases c3 : leN (fun k => tBy t H 0 (A + m + k)) 2 % 4 = 3
    · rw [if_pos c3, if_pos ⟨rfl, c3⟩, ld 4 (.inr rfl) (by omega), Option.bind_some]; rfl
    · rw [if_neg c3, if_neg (fun q => c3 q.2)]
/-- and of one that has its own piece -/
theorem t_wordO (hu : tUn t H x (O x)) (vo : vOb (O x)) (g : gOb (O x)) (x0 : 0 ≤ x) (x1 : x < 6) (j0 : 0 ≤ j) (j1 : j < O x 2 2 0) (hK : ¬ jf t 41 H 114 = -1) (hx : jf t 41 H 113 = x) (m0 : 0 ≤ m) (m1 : m ≤ 8) (hm : O x 5 j 1 + m + 4 ≤ O x 1 0 0) : m_X37_wordFor t H (300 * x + j) m = some (uW (O x) (O x 5 j 1 + m)) := by
  obtain ⟨-, l1, l2, l3, -⟩ := rel_lo vo g j0 j1
  obtain ⟨-, t1, -⟩ := t_relr hu j0 j1
  have n3 := vo.2.2.1.2.2.2.2.2
  have J185 : jlt t 1000 (H + 185) 1800 (300 * x + j) = some (O x 5 j 1) := by rw [jlt_in (by omega) (by omega), t1]
  rw [em_X37_wordFor]; unfold dm_X37_wordFor
  rw [if_neg hK, J185, Option.bind_some, hx, W32_in (by omega) (by omega), t_unitW hu vo x0 x1 (by omega) hm, Option.bind_some]
/-- a unit's word by its bytes -/
theorem uW_le (vo : vOb (O x)) (a0 : 0 ≤ a) (a1 : a + 4 ≤ O x 1 0 0) : uW (O x) a = W32 (leN (fun k => O x 0 0 (a + k)) 4) := by
  have B : ∀ k, 0 ≤ k → k < 4 → 0 ≤ O x 0 0 (a + k) ∧ O x 0 0 (a + k) < 256 := fun k k0 k1 => vo.2.1 0 (a + k) (by decide) (by decide) (by omega) (by omega)
  have b0 := B 0 (by decide) (by decide)
  rw [Int.add_zero] at b0
  unfold uW
  rw [wd4_sum b0 (B 1 (by decide) (by decide)) (B 2 (by decide) (by decide)) (B 3 (by decide) (by decide)), leN_4, Int.add_zero]
end jLnu
