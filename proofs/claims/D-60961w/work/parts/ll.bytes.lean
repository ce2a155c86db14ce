/-! the linker: bytes put and got, both sides -/
set_option maxRecDepth 100000
section jLby
variable {s t u w : jS} {a b k m n o p v l x c f g i j H C : Int} {B : Int → Int}
/-- a byte of a number -/
def byV (v k : Int) : Int := v / 2 ^ (8 * k).toNat % 256
theorem byV_lo : 0 ≤ byV v k ∧ byV v k < 256 := by unfold byV; omega
abbrev jlg (v : Int) : Prop := -9223372036854775808 ≤ v ∧ v ≤ 9223372036854775807
theorem byC (hv : jlg v) (k0 : 0 ≤ k) (k1 : k < 8) : W8 (W8 (L2i (L_shr v (W32 (8 * k))))) = sb (byV v k) := by
  have b := byV_lo (v := v) (k := k)
  rw [W32_in (by omega) (by omega), l_shr_p hv (by omega) (by omega), l2i_p, W8_sb, W8_sb, sb_mod (by omega) (by omega)]
  refine congrArg sb ?_
  exact W32_mod_p _ 8 (by decide)
theorem byT (hv : jlg v) (k0 : 0 ≤ k) (k1 : k < 8) : L2i (L_and (L_shr v (W32 (8 * k))) 255) = byV v k := by
  have b := byV_lo (v := v) (k := k)
  rw [W32_in (by omega) (by omega), l_shr_p hv (by omega) (by omega), L_and_255]
  show L2i (byV v k) = _
  exact l2i_in (by omega) (by omega)
theorem c_putB (ha : 0 ≤ a) (hK : jK s a = 1001) (hN : jN s a = 4096) (p0 : 0 ≤ p) (p1 : p + n ≤ 4096) (n0 : 0 ≤ n) (n1 : n ≤ 8) (hv : jlg v) : ∃ u, m_X35_put s l a p n v = some (u, 0) ∧ jSm s u ∧ (∀ k, 0 ≤ k → k < n → jf u 1001 a (p + k) = sb (byV v k)) ∧ ∀ c b k, ¬ (c = 1001 ∧ b = a ∧ p ≤ k ∧ k < p + n) → jf u c b k = jf s c b k := by
  rw [em_X35_put]; unfold dm_X35_put
  rw [eu_X35_put_3]; unfold du_X35_put_3
  obtain ⟨u, eu, h1, h2, h3⟩ := loopTo (C := jc5 b_X35_put_3) (fun i w => jSm s w ∧ (∀ k, 0 ≤ k → k < i → jf w 1001 a (p + k) = sb (byV v k)) ∧ ∀ c b k, ¬ (c = 1001 ∧ b = a ∧ p ≤ k ∧ k < p + i) → jf w c b k = jf s c b k) (fun i => [a, p, n, v, i]) 0 n n0 (s := s) (F := fun w => some (w, 0)) ⟨jSm.rfl, fun k k0 k1 => by omega, fun _ _ _ _ => rfl⟩ (fun i w i0 i1 ⟨j1, j2, j3⟩ => by
    refine ⟨jp w 1001 a (p + i) (sb (byV v i)), ?_, j1.jp, fun k k0 k1 => ?_, fun c b k q => ?_⟩
    · show b_X35_put_3 w a p n v i = _
      unfold b_X35_put_3
      rw [if_pos i1, byC hv i0 (by omega), W32_in (by omega) (by omega), jsa_in ha (by rw [j1.1]; exact hK) (by omega) (by rw [j1.2.1, hN]; omega), Option.bind_some, W32_in (by omega) (by omega)]
    · by_cases c : k = i
      · rw [c, jf_pos ⟨rfl, rfl, rfl⟩]
      · rw [jf_neg (by omega)]; exact j2 k k0 (by omega)
    · rw [jf_neg (by omega)]; exact j3 c b k (by omega)) (fun w _ => by
    show b_X35_put_3 w a p n v n = _
    unfold b_X35_put_3
    rw [if_neg (by omega)])
  exact ⟨u, eu, h1, h2, h3⟩
theorem t_storeB (p0 : 0 ≤ p) (p1 : p + n ≤ 12288) (n0 : 0 ≤ n) (n1 : n ≤ 8) (hv : jlg v) : ∃ u, m_X37_store t H p n v = some (u, 0) ∧ jSm t u ∧ (∀ k, 0 ≤ k → k < n → jf u 1000 (H + 205) (p + k) = byV v k) ∧ ∀ c b k, ¬ (c = 1000 ∧ b = H + 205 ∧ p ≤ k ∧ k < p + n) → jf u c b k = jf t c b k := by
  rw [em_X37_store]; unfold dm_X37_store
  rw [eu_X37_store_3]; unfold du_X37_store_3
  obtain ⟨u, eu, h1, h2, h3⟩ := loopTo (C := jc5 b_X37_store_3) (fun i w => jSm t w ∧ (∀ k, 0 ≤ k → k < i → jf w 1000 (H + 205) (p + k) = byV v k) ∧ ∀ c b k, ¬ (c = 1000 ∧ b = H + 205 ∧ p ≤ k ∧ k < p + i) → jf w c b k = jf t c b k) (fun i => [H, p, n, v, i]) 0 n n0 (s := t) (F := fun w => some (w, 0)) ⟨jSm.rfl, fun k k0 k1 => by omega, fun _ _ _ _ => rfl⟩ (fun i w i0 i1 ⟨j1, j2, j3⟩ => by
    refine ⟨jp w 1000 (H + 205) (p + i) (byV v i), ?_, j1.jp, fun k k0 k1 => ?_, fun c b k q => ?_⟩
    · show b_X37_store_3 w H p n v i = _
      unfold b_X37_store_3
      rw [if_pos i1, byT hv i0 (by omega), W32_in (by omega) (by omega), jst_in (by omega) (by omega), Option.bind_some, W32_in (by omega) (by omega)]
    · by_cases c : k = i
      · rw [c, jf_pos ⟨rfl, rfl, rfl⟩]
      · rw [jf_neg (by omega)]; exact j2 k k0 (by omega)
    · rw [jf_neg (by omega)]; exact j3 c b k (by omega)) (fun w _ => by
    show b_X37_store_3 w H p n v n = _
    unfold b_X37_store_3
    rw [if_neg (by omega)])
  exact ⟨u, eu, h1, h2, h3⟩
/-- bytes as a number: the lowest first -/
def leN (B : Int → Int) : Nat → Int
  | 0 => 0
  | m + 1 => leN B m + B m * 256 ^ m
theorem leN_lo (hB : ∀ k, 0 ≤ k → k < n → 0 ≤ B k ∧ B k < 256) : ∀ m : Nat, (m : Int) ≤ n → 0 ≤ leN B m ∧ leN B m < 256 ^ m
  | 0, _ => ⟨Int.le_refl _, by show (0 : Int) < 256 ^ 0; decide⟩
  | m + 1, h => by
    obtain ⟨h1, h2⟩ := leN_lo hB m (by omega)
    obtain ⟨b0, b1⟩ := hB m (by omega) (by omega)
    have p : (0 : Int) < 256 ^ m := Int.pow_pos (by decide)
    show 0 ≤ leN B m + B m * 256 ^ m ∧ leN B m + B m * 256 ^ m < 256 ^ (m + 1)
    have e : (256 : Int) ^ (m + 1) = 256 ^ m * 256 := Int.pow_succ _ _
    have q1 : 0 ≤ B m * 256 ^ m := Int.mul_nonneg b0 (by omega)
    have q2 : B m * 256 ^ m ≤ 255 * 256 ^ m := Int.mul_le_mul_of_nonneg_right (by omega) (by omega)
    omega
theorem leN_cg {B' : Int → Int} : ∀ m : Nat, (∀ k : Int, 0 ≤ k → k < m → B' k = B k) → leN B' m = leN B m
  | 0, _ => rfl
  | m + 1, h => by
    show leN B' m + B' m * 256 ^ m = leN B m + B m * 256 ^ m
    rw [leN_cg m fun k k0 k1 => h k k0 (by omega), h m (by omega) (by omega)]
theorem leN_1 : leN B 1 = B 0 := by show (0 : Int) + B 0 * 256 ^ 0 = _; rw [Int.pow_zero]; omega
theorem leN_2 : leN B 2 = B 0 + B 1 * 256 := by
  show leN B 1 + B 1 * 256 ^ 1 = _; rw [leN_1]; rfl
theorem leN_4 : leN B 4 = B 0 + B 1 * 256 + B 2 * 65536 + B 3 * 16777216 := by
  show leN B 2 + B 2 * 256 ^ 2 + B 3 * 256 ^ 3 = _; rw [leN_2]; rfl
/-- the component gets bytes, the highest first -/
theorem c_getB (ha : 0 ≤ a) (hK : jK s a = 1001) (hN : jN s a = 4096) (p0 : 0 ≤ p) (p1 : p + n ≤ 4096) (hn : n = 1 ∨ n = 2 ∨ n = 4) (hB : ∀ k, 0 ≤ k → k < n → 0 ≤ B k ∧ B k < 256) (hb : ∀ k, 0 ≤ k → k < n → jf s 1001 a (p + k) = sb (B k)) : m_X35_get s l a p n = some (leN B n.toNat) := by
  have rd : ∀ k, 0 ≤ k → k < n → jld s 1001 a (W32 (p + k)) = some (sb (B k)) := fun k k0 k1 => by
    rw [W32_in (by omega) (by omega)]
    unfold jld
    rw [if_pos ⟨ha, hK, by omega, by rw [hN]; omega⟩, hb k k0 k1]
  have b255 : ∀ k, 0 ≤ k → k < n → L_and (sb (B k)) 255 = B k := fun k k0 k1 => by
    rw [L_and_255, sb_mod (hB k k0 k1).1 (hB k k0 k1).2]
  have st : ∀ x k, 0 ≤ k → k < n → 0 ≤ x → x < 16777216 → jc4 b_X35_get_8 [a, p, x, k] s = some (.inl [a, p, x * 256 + B k, k - 1]) := fun x k k0 k1 x0 x1 => by
    show b_X35_get_8 s a p x k = _
    unfold b_X35_get_8
    obtain ⟨q0, q1⟩ := hB k k0 k1
    have e8 : (2 : Int) ^ (8 : Int).toNat = 256 := by decide
    rw [if_neg (by omega), rd k k0 k1, Option.bind_some]
    simp only [jlet]
    rw [b255 k k0 k1, l_shl_p (by decide) (by decide), e8, W64_in (by omega) (by omega), L_or_hi 8 (by decide) (by omega) q0 (by show B k < 256; exact q1), W64_in (by omega) (by omega), W32_in (by omega) (by omega)]; rfl
  have fin : ∀ x, jc4 b_X35_get_8 [a, p, x, -1] s = jinr (some x) := fun x => by
    show b_X35_get_8 s a p x (-1) = _
    unfold b_X35_get_8
    rw [if_pos (by decide)]
  rw [em_X35_get]; unfold dm_X35_get
  simp only [jlet]
  rw [eu_X35_get_8]; unfold du_X35_get_8
  rcases hn with rfl | rfl | rfl
  · have c0 := hB 0 (by decide) (by decide)
    rw [W32_in (by decide) (by decide)]
    show jlpR _ [a, p, 0, 0] s = _
    rw [jlpR_l (st 0 0 (by decide) (by decide) (by decide) (by decide))]
    show jlpR _ [a, p, 0 * 256 + B 0, -1] s = _
    rw [jlpR_r (fin _)]
    show _ = some (leN B 1)
    rw [leN_1]; exact congrArg some (by omega)
  · have c0 := hB 0 (by decide) (by decide)
    have c1 := hB 1 (by decide) (by decide)
    rw [W32_in (by decide) (by decide)]
    show jlpR _ [a, p, 0, 1] s = _
    rw [jlpR_l (st 0 1 (by decide) (by decide) (by decide) (by decide))]
    show jlpR _ [a, p, 0 * 256 + B 1, 0] s = _
    rw [jlpR_l (st _ 0 (by decide) (by decide) (by omega) (by omega))]
    show jlpR _ [a, p, (0 * 256 + B 1) * 256 + B 0, -1] s = _
    rw [jlpR_r (fin _)]
    show _ = some (leN B 2)
    rw [leN_2]; exact congrArg some (by omega)
  · have c0 := hB 0 (by decide) (by decide)
    have c1 := hB 1 (by decide) (by decide)
    have c2 := hB 2 (by decide) (by decide)
    have c3 := hB 3 (by decide) (by decide)
    rw [W32_in (by decide) (by decide)]
    show jlpR _ [a, p, 0, 3] s = _
    rw [jlpR_l (st 0 3 (by decide) (by decide) (by decide) (by decide))]
    show jlpR _ [a, p, 0 * 256 + B 3, 2] s = _
    rw [jlpR_l (st _ 2 (by decide) (by decide) (by omega) (by omega))]
    show jlpR _ [a, p, (0 * 256 + B 3) * 256 + B 2, 1] s = _
    rw [jlpR_l (st _ 1 (by decide) (by decide) (by omega) (by omega))]
    show jlpR _ [a, p, ((0 * 256 + B 3) * 256 + B 2) * 256 + B 1, 0] s = _
    rw [jlpR_l (st _ 0 (by decide) (by decide) (by omega) (by omega))]
    show jlpR _ [a, p, (((0 * 256 + B 3) * 256 + B 2) * 256 + B 1) * 256 + B 0, -1] s = _
    rw [jlpR_r (fin _)]
    show _ = some (leN B 4)
    rw [leN_4]; exact congrArg some (by omega)
/-- the twin gets bytes -/
theorem t_loadB (p0 : 0 ≤ p) (p1 : p + n ≤ 12288) (hn : n = 1 ∨ n = 2 ∨ n = 4) (hB : ∀ k, 0 ≤ k → k < n → 0 ≤ B k ∧ B k < 256) (hb : ∀ k, 0 ≤ k → k < n → jf t 1000 (H + 205) (p + k) = B k) : m_X37_loaded t H p n = some (W32 (leN B n.toNat)) := by
  rw [em_X37_loaded]; unfold dm_X37_loaded
  rw [eu_X37_loaded_5]; unfold du_X37_loaded_5
  have e00 : (0 : Int) = W32 (leN B (0 : Int).toNat) := by
    show (0 : Int) = W32 0; rw [W32_in (by decide) (by decide)]
  have sh : jlpR (jc5 b_X37_loaded_5) [H, p, n, 0, 0] t = jlpR (jc5 b_X37_loaded_5) [H, p, n, W32 (leN B (0 : Int).toNat), 0] t := by rw [← e00]
  rw [sh]
  refine jforR (C := jc5 b_X37_loaded_5) (fun k => [H, p, n, W32 (leN B k.toNat), k]) 0 n (by omega) (fun k k0 k1 => ?_) ?_
  · show b_X37_loaded_5 t H p n (W32 (leN B k.toNat)) k = _
    obtain ⟨q0, q1⟩ := hB k k0 k1
    obtain ⟨l0, l1⟩ := leN_lo hB k.toNat (by omega)
    have k3 : k = 0 ∨ k = 1 ∨ k = 2 ∨ k = 3 := by omega
    have eK : ((k.toNat : Nat) : Int) = k := by omega
    have l2 : leN B k.toNat ≤ 16777216 := by
      rcases k3 with rfl | rfl | rfl | rfl
      · have : leN B (0 : Int).toNat = 0 := rfl
        omega
      · have : (256 : Int) ^ (1 : Int).toNat = 256 := by decide
        omega
      · have : (256 : Int) ^ (2 : Int).toNat = 65536 := by decide
        omega
      · have : (256 : Int) ^ (3 : Int).toNat = 16777216 := by decide
        omega
    have e1 : leN B (k + 1).toNat = leN B k.toNat + B k * 256 ^ k.toNat := by
      rw [show (k + 1).toNat = k.toNat + 1 by omega]
      show leN B k.toNat + B ((k.toNat : Nat) : Int) * 256 ^ k.toNat = _
      rw [eK]
    unfold b_X37_loaded_5
    rw [if_pos k1, W32_in (z := p + k) (by omega) (by omega), jlt_in (by omega) (by omega), Option.bind_some, hb k k0 k1, W32_in (z := 8 * k) (by omega) (by omega), W32_in (z := k + 1) (by omega) (by omega), e1, W32_in (z := leN B k.toNat) (by omega) (by omega)]
    simp only [jlet]
    have key : I_or (leN B k.toNat) (I_shl (B k) (8 * k)) = W32 (leN B k.toNat + B k * 256 ^ k.toNat) := by
      rw [i_shl_p (by omega) (by omega)]
      have e2 : (2 : Int) ^ (8 * k).toNat = 256 ^ k.toNat := by
        rcases k3 with rfl | rfl | rfl | rfl <;> decide
      have e3 : (2 : Int) ^ (8 * k.toNat) = 256 ^ k.toNat := by
        rcases k3 with rfl | rfl | rfl | rfl <;> decide
      have pz : (0 : Int) < 256 ^ k.toNat := Int.pow_pos (by decide)
      have m0 : W32 (B k * 256 ^ k.toNat) % 2 ^ (8 * k.toNat) = 0 := by
        rw [W32_mod_p _ _ (by omega), e3]; exact Int.mul_emod_left _ _
      rw [e2, I_or_lo (8 * k.toNat) (by omega) l0 (by rw [e3]; exact l1) m0]
      refine W32_cong ?_
      rw [Int.add_emod, W32_mod, ← Int.add_emod]
    rw [key]
  · show b_X37_loaded_5 t H p n (W32 (leN B n.toNat)) n = _
    unfold b_X37_loaded_5
    rw [if_neg (by omega)]
theorem wd4_sum {d : Int} (a0 : 0 ≤ a ∧ a < 256) (b0 : 0 ≤ b ∧ b < 256) (c0 : 0 ≤ c ∧ c < 256) (d0 : 0 ≤ d ∧ d < 256) : wd4 a b c d = W32 (a + b * 256 + c * 65536 + d * 16777216) := by
  unfold wd4
  rw [i_shl_p (by decide) (by decide), i_shl_p (by decide) (by decide), i_shl_p (by decide) (by decide)]
  have e8 : (2 : Int) ^ (8 : Int).toNat = 256 := by decide
  have e16 : (2 : Int) ^ (16 : Int).toNat = 65536 := by decide
  have e24 : (2 : Int) ^ (24 : Int).toNat = 16777216 := by decide
  rw [e8, e16, e24, W32_in (z := b * 256) (by omega) (by omega), W32_in (z := c * 65536) (by omega) (by omega)]
  rw [I_or_lo (x := a) (y := b * 256) 8 (by decide) a0.1 (by show a < 256; omega) (by show b * 256 % 256 = 0; omega), W32_in (by omega) (by omega)]
  rw [I_or_lo (x := a + b * 256) (y := c * 65536) 16 (by decide) (by omega) (by show a + b * 256 < 65536; omega) (by show c * 65536 % 65536 = 0; omega), W32_in (by omega) (by omega)]
  have m0 : W32 (d * 16777216) % 2 ^ 24 = 0 := by
    rw [W32_mod_p _ _ (by decide)]; show d * 16777216 % 16777216 = 0; omega
  rw [I_or_lo 24 (by decide) (by omega) (by show a + b * 256 + c * 65536 < 16777216; omega) m0]
  refine W32_cong ?_
  rw [Int.add_emod, W32_mod, ← Int.add_emod]
end jLby
